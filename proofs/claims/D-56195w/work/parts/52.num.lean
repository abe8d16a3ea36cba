/-! ===== numbering: frames, the top loop ===== -/
set_option maxRecDepth 100000
/-- but for h, na, la nothing has changed -/
def Fn (σ σ' : Sto) (h na la : Nat) : Prop := ∀ a, a ≠ h → a ≠ na → a ≠ la → σ' a = σ a
theorem Fn.refl {σ : Sto} {h na la : Nat} : Fn σ σ h na la := fun _ _ _ _ => rfl
theorem Fn.trans {σ1 σ2 σ3 : Sto} {h na la : Nat} (h1 : Fn σ1 σ2 h na la) (h2 : Fn σ2 σ3 h na la) : Fn σ1 σ3 h na la := fun a e1 e2 e3 => (h2 a e1 e2 e3).trans (h1 a e1 e2 e3)
theorem Fn.set {σ σ1 : Sto} {h na la q : Nat} {e : va_E} (h1 : Fn σ σ1 h na la) (hq : q = h ∨ q = na ∨ q = la) : Fn σ (sset σ1 q e) h na la := fun a e1 e2 e3 => by
  rw [sset_ne (by rintro rfl; rcases hq with h | h | h <;> contradiction)]
  exact h1 a e1 e2 e3
theorem Fn.ext {σ0 σ σ' : Sto} {h na la : Nat} (h1 : Fn σ σ' h na la) (hx : Ext σ0 σ) (h2 : σ0 h = none) (h3 : σ0 na = none) (h4 : σ0 la = none) : Ext σ0 σ' := fun a ha => by
  rw [h1 a (by rintro rfl; exact ha h2) (by rintro rfl; exact ha h3) (by rintro rfl; exact ha h4), hx a ha]
theorem IsWorks.fn {g : Gh} {σ σ' : Sto} {L v : Nat → Nat} {h na la n1 n2 : Nat} {vs : List Value} {c1 c2 : ClassId} {f1 f2 : Nat → Int32} (hw : IsWorks g σ L v) (hf : Fn σ σ' h na la) (eh : σ h = some (.inr (13, vs))) (en : σ na = some (.inl (c1, n1, .inl f1))) (el : σ la = some (.inl (c2, n2, .inl f2))) : IsWorks g σ' L v := by
  have q : ∀ {b cj : Nat} {ws : List Value}, σ b = some (.inr (cj, ws)) → cj ≠ 13 → σ' b = some (.inr (cj, ws)) := fun {b cj ws} hb hc => by
    rw [hf b (fun e => by rw [e, eh] at hb; injection hb with hb; injection hb with hb; exact hc (congrArg Prod.fst hb).symm) (fun e => by rw [e, en] at hb; cases hb) (fun e => by rw [e, el] at hb; cases hb)]
    exact hb
  have r : ∀ {b : Nat} {n : Nat} {f : Nat → Option Nat}, σ b = some (eR g n f) → σ' b = some (eR g n f) := fun {b n f} hb => by
    rw [hf b (fun e => by rw [e, eh] at hb; cases hb) (fun e => by rw [e, en] at hb; simp at hb) (fun e => by rw [e, el] at hb; simp at hb)]
    exact hb
  obtain ⟨h0, b0, hT, hP, ht1, hp1, h2⟩ := hw
  have li : ∀ {tl ea k : Nat} {ad : Nat → Nat}, IsList g σ tl ea k ad → IsList g σ' tl ea k ad := fun {tl ea k ad} ⟨mc, n, f, e0, b0, e1, h3⟩ => ⟨mc, n, f, q e0 (by decide), b0, r e1, h3⟩
  exact ⟨q h0 (by decide), b0, li hT, li hP, fun t ht => ⟨q (ht1 t ht).1 (by decide), (ht1 t ht).2⟩, fun t ht => ⟨q (hp1 t ht).1 (by decide), (hp1 t ht).2⟩, h2⟩
/-- between two components: what is numbered is closed -/
def NI (v num : Nat → Nat) (nx br k : Nat) : Prop := 0 < nx ∧ (∀ y, num y < nx) ∧ (∀ q y z, q < v 1 → edg v q y z → 0 < num y → 0 < num z) ∧ (∀ t, t < k → 0 < num t) ∧ br = cE v (fun y => decide (0 < num y)) (v 1)
theorem cE_congr {v : Nat → Nat} {A B : Nat → Bool} : ∀ n, (∀ q, q < n → bE v A q = bE v B q) → cE v A n = cE v B n
  | 0, _ => rfl
  | n + 1, h => by rw [cE, cE, cE_congr n (fun q hq => h q (by omega)), h n (by omega)]
theorem NI.pre {v num : Nat → Nat} {nx br t : Nat} (h : NI v num nx br t) (ht : t < v 0) (h0 : num t = 0) (hI : Inv v) : VPre v num nx t (-1) :=
  ⟨h0, ht, h.1, h.2.1, fun q y z hq he hy hz => by have := h.2.2.1 q y z hq he hy; omega, fun q z hq hc => by
    have := hI.2.1
    exact absurd hc (nI_neg (by omega)), fun q hq hc => by
    have := hI.2.1
    exact absurd hc (nI_neg (by omega))⟩
theorem NI.skip {v num : Nat → Nat} {nx br t : Nat} (h : NI v num nx br t) (h0 : 0 < num t) : NI v num nx br (t + 1) := ⟨h.1, h.2.1, h.2.2.1, fun s hs => by
  by_cases e : s = t
  · rw [e]; exact h0
  · exact h.2.2.2.1 s (by omega), h.2.2.2.2⟩
theorem NI.next {v num low : Nat → Nat} {nx br t : Nat} (hI : Inv v) (h : NI v num nx br t) (h0 : num t = 0) {num' low' : Nat → Nat} {nx' br' : Nat} (hP : VP v (-1) num low nx br t num' low' nx' br') : NI v num' nx' br' (t + 1) := by
  obtain ⟨h1, h2, h3, h4, h5⟩ := h
  obtain ⟨p1, p2, p3, p4, p5, p6, p7, p8, p9⟩ := hP
  have keep : ∀ y, 0 < num y → 0 < num' y := fun y hy => by rw [(p2 y hy).1]; exact hy
  refine ⟨by omega, p4.2, fun q y z hq he hy => ?_, fun s hs => ?_, ?_⟩
  · by_cases e : num y = 0
    · exact p5 y e hy q z hq he
    · exact keep z (h3 q y z hq he (by omega))
  · by_cases e : s = t
    · rw [e, p1]; exact h1
    · exact keep s (h4 s (by omega))
  · rw [p9, h5]
    have hs := cE_split (v := v) (A := fun y => decide (0 < num y)) (B := nw num num') (C := fun y => decide (0 < num' y)) (k := v 1) (d := 0) (v 1) (fun q hq => by
      rw [if_neg (by omega)]
      unfold bE
      have hAB : ∀ y, decide (0 < num' y) = (decide (0 < num y) || nw num num' y) := fun y => by
        apply Bool.eq_iff_iff.mpr
        rw [Bool.or_eq_true, nw_iff, decide_eq_true_eq, decide_eq_true_eq]
        constructor
        · intro hy
          by_cases e : num y = 0
          · exact Or.inr ⟨e, hy⟩
          · exact Or.inl (by omega)
        · rintro (hy | hy)
          · exact keep y hy
          · exact hy.2
      have hdis : ∀ y, nw num num' y = true → decide (0 < num y) = false := fun y hy => decide_eq_false (by have := (nw_iff.mp hy).1; omega)
      show (if (brB v q && (decide (0 < num' (pA v q)) && decide (0 < num' (pB v q)))) = true then 1 else 0) = (if (brB v q && (decide (0 < num (pA v q)) && decide (0 < num (pB v q)))) = true then 1 else 0) + (if (brB v q && (nw num num' (pA v q) && nw num num' (pB v q))) = true then 1 else 0) + 0
      rw [hAB, hAB]
      cases hb : brB v q with
      | false => simp
      | true =>
        have hop : opn (pV v q) (pD v q) = true := by
          unfold brB at hb
          rw [Bool.and_eq_true] at hb
          exact hb.1
        have m1 : decide (0 < num (pA v q)) = true → decide (0 < num (pB v q)) = true := fun h => decide_eq_true (h3 q _ _ hq ⟨hop, Or.inl ⟨rfl, rfl⟩⟩ (of_decide_eq_true h))
        have m2 : decide (0 < num (pB v q)) = true → decide (0 < num (pA v q)) = true := fun h => decide_eq_true (h3 q _ _ hq ⟨hop, Or.inr ⟨rfl, rfl⟩⟩ (of_decide_eq_true h))
        have d1 := hdis (pA v q)
        have d2 := hdis (pB v q)
        cases a1 : decide (0 < num (pA v q)) <;> cases a2 : decide (0 < num (pB v q)) <;> cases b1 : nw num num' (pA v q) <;> cases b2 : nw num num' (pB v q) <;> simp_all)
    rw [hs, if_neg (by omega), Nat.add_zero]
theorem NI.start {v : Nat → Nat} : NI v (fun _ => 0) 1 0 0 := ⟨by decide, fun _ => by show 0 < 1; omega, fun q y z _ _ h => absurd (show 0 < 0 from h) (by omega), fun t ht => absurd ht (by omega), (cE_0 _ (fun q _ => by unfold bE; simp)).symm⟩
theorem NI.done {v num : Nat → Nat} {nx br : Nat} (hI : Inv v) (h : NI v num nx br (v 0)) : br = brN v (v 1) := by
  rw [h.2.2.2.2]
  have : ∀ n, n ≤ v 1 → cE v (fun y => decide (0 < num y)) n = brN v n := by
    intro n
    induction n with
    | zero => exact fun _ => rfl
    | succ n ih =>
      intro hn
      obtain ⟨a, b, -⟩ := hI.pp (show n < v 1 by omega)
      rw [cE, brN, ih (by omega)]
      unfold bE
      show _ + (if (brB v n && (decide (0 < num (pA v n)) && decide (0 < num (pB v n)))) = true then 1 else 0) = _
      rw [decide_eq_true (h.2.2.2.1 _ a), decide_eq_true (h.2.2.2.1 _ b), Bool.and_true, Bool.and_true]
  exact this _ (Nat.le_refl _)
