/-! ===== the twin's reached sets: plain ===== -/
set_option maxRecDepth 100000
def rsa (v : Nat → Nat) (x : Nat) (R : Nat → Bool) (q : Nat) : Nat → Bool := if R (256 * pA v q + x) = true then va_up R (256 * pB v q + clr x (pM v q)) true else R
def rsb (v : Nat → Nat) (x : Nat) (R : Nat → Bool) (q : Nat) : Nat → Bool := if R (256 * pB v q + x) = true then va_up R (256 * pA v q + clr x (pM v q)) true else R
def rs1 (v : Nat → Nat) (x : Nat) (R : Nat → Bool) (q : Nat) : Nat → Bool := if opv v q = true then rsb v x (rsa v x R q) q else R
def rsP (v : Nat → Nat) (x : Nat) (R : Nat → Bool) : Nat → Nat → Bool
  | 0 => R
  | n + 1 => rs1 v x (rsP v x R n) n
def rsQ (v : Nat → Nat) (x : Nat) (R : Nat → Bool) : Nat → Nat → Bool
  | 0 => R
  | n + 1 => rsP v x (rsQ v x R n) (v 1)
def rsD (v : Nat → Nat) (st : Nat) (R : Nat → Bool) : Nat → Nat → Bool
  | 0 => R
  | j + 1 => rsQ v (st - j) (rsD v st R j) 8
section RS
variable {v : Nat → Nat} {x : Nat} {R : Nat → Bool}
theorem va_upT {R : Nat → Bool} {i j : Nat} (h : R j = true) : va_up R i true j = true := by
  unfold va_up
  split
  · rfl
  · exact h
theorem rsa_mono {q j : Nat} (h : R j = true) : rsa v x R q j = true := by
  unfold rsa
  split
  · exact va_upT h
  · exact h
theorem rsb_mono {q j : Nat} (h : R j = true) : rsb v x R q j = true := by
  unfold rsb
  split
  · exact va_upT h
  · exact h
theorem rs1_mono {q j : Nat} (h : R j = true) : rs1 v x R q j = true := by
  unfold rs1
  split
  · exact rsb_mono (rsa_mono h)
  · exact h
theorem rsP_mono {j : Nat} (h : R j = true) : ∀ n, rsP v x R n j = true
  | 0 => h
  | n + 1 => rs1_mono (rsP_mono h n)
theorem rsP_le {j n : Nat} (h : rsP v x R n j = true) : ∀ d, rsP v x R (n + d) j = true
  | 0 => h
  | d + 1 => rs1_mono (rsP_le h d)
theorem rsQ_mono {j : Nat} (h : R j = true) : ∀ n, rsQ v x R n j = true
  | 0 => h
  | n + 1 => rsP_mono (rsQ_mono h n) _
theorem rsD_mono {st j : Nat} (h : R j = true) : ∀ n, rsD v st R n j = true
  | 0 => h
  | n + 1 => rsQ_mono (rsD_mono h n) _
theorem rs1_ev {q : Nat} (h : opv v q = true) : rs1 v x R q = rsb v x (rsa v x R q) q := if_pos h
theorem rsa_t {q : Nat} (h : R (256 * pA v q + x) = true) : rsa v x R q = va_up R (256 * pB v q + clr x (pM v q)) true := if_pos h
theorem rsa_f {q : Nat} (h : R (256 * pA v q + x) = false) : rsa v x R q = R := if_neg (by rw [h]; decide)
theorem rsb_t {q : Nat} (h : R (256 * pB v q + x) = true) : rsb v x R q = va_up R (256 * pA v q + clr x (pM v q)) true := if_pos h
theorem rsb_f {q : Nat} (h : R (256 * pB v q + x) = false) : rsb v x R q = R := if_neg (by rw [h]; decide)
/-- whatever holds of all and goes over through a pipe -/
theorem rs1_sound {q : Nat} {P : Nat → Prop} (h : ∀ j, R j = true → P j) (h1 : P (256 * pA v q + x) → P (256 * pB v q + clr x (pM v q))) (h2 : P (256 * pB v q + x) → P (256 * pA v q + clr x (pM v q))) : ∀ j, opv v q = true → rs1 v x R q j = true → P j := by
  intro j ho hj
  have ha : ∀ j, rsa v x R q j = true → P j := fun j hj => by
    unfold rsa at hj
    split at hj
    · rename_i h9
      unfold va_up at hj
      split at hj
      · rename_i e; rw [e]; exact h1 (h _ h9)
      · exact h j hj
    · exact h j hj
  rw [rs1, if_pos ho] at hj
  unfold rsb at hj
  split at hj
  · rename_i h9
    unfold va_up at hj
    split at hj
    · rename_i e; rw [e]; exact h2 (ha _ h9)
    · exact ha j hj
  · exact ha j hj
theorem rsP_sound {P : Nat → Prop} (h : ∀ j, R j = true → P j) (h1 : ∀ q, q < v 1 → opv v q = true → (P (256 * pA v q + x) → P (256 * pB v q + clr x (pM v q))) ∧ (P (256 * pB v q + x) → P (256 * pA v q + clr x (pM v q)))) : ∀ n, n ≤ v 1 → ∀ j, rsP v x R n j = true → P j
  | 0, _, j, hj => h j hj
  | n + 1, hn, j, hj => by
    have ih := rsP_sound h h1 n (by omega)
    rw [rsP] at hj
    by_cases ho : opv v n = true
    · obtain ⟨e1, e2⟩ := h1 n (by omega) ho
      exact rs1_sound ih e1 e2 j ho hj
    · rw [rs1, if_neg ho] at hj
      exact ih j hj
theorem rsQ_sound {P : Nat → Prop} (h : ∀ j, R j = true → P j) (h1 : ∀ q, q < v 1 → opv v q = true → (P (256 * pA v q + x) → P (256 * pB v q + clr x (pM v q))) ∧ (P (256 * pB v q + x) → P (256 * pA v q + clr x (pM v q)))) : ∀ n j, rsQ v x R n j = true → P j
  | 0, j, hj => h j hj
  | n + 1, j, hj => rsP_sound (rsQ_sound h h1 n) h1 (v 1) (Nat.le_refl _) j hj
/-- closed for the set x -/
def Cl (v : Nat → Nat) (x : Nat) (R : Nat → Bool) : Prop := ∀ q, q < v 1 → opv v q = true → (R (256 * pA v q + x) = true → R (256 * pB v q + clr x (pM v q)) = true) ∧ (R (256 * pB v q + x) = true → R (256 * pA v q + clr x (pM v q)) = true)
theorem rs1_id {q : Nat} (h : Cl v x R) (hq : q < v 1) : rs1 v x R q = R := by
  unfold rs1
  split
  · rename_i ho
    obtain ⟨e1, e2⟩ := h q hq ho
    have ha : rsa v x R q = R := by
      unfold rsa
      split
      · rename_i h9; exact va_up_same (e1 h9)
      · rfl
    rw [ha]
    unfold rsb
    split
    · rename_i h9; exact va_up_same (e2 h9)
    · rfl
  · rfl
theorem rsP_id (h : Cl v x R) : ∀ n, n ≤ v 1 → rsP v x R n = R
  | 0, _ => rfl
  | n + 1, hn => by rw [rsP, rsP_id h n (by omega), rs1_id h (by omega)]
theorem rs1_do {q : Nat} (ho : opv v q = true) : (R (256 * pA v q + x) = true → rs1 v x R q (256 * pB v q + clr x (pM v q)) = true) ∧ (R (256 * pB v q + x) = true → rs1 v x R q (256 * pA v q + clr x (pM v q)) = true) := by
  rw [rs1, if_pos ho]
  refine ⟨fun h => rsb_mono ?_, fun h => ?_⟩
  · rw [rsa, if_pos h, va_up_self]
  · rw [rsb, if_pos (rsa_mono h), va_up_self]
theorem rsP_pass (hI : Inv v) : Cl v x (rsP v x R (v 1)) ∨ unv (fun t => rsP v x R (v 1) (256 * t + x)) < unv (fun t => R (256 * t + x)) := by
  by_cases h : ∃ t, t < 8 ∧ R (256 * t + x) = false ∧ rsP v x R (v 1) (256 * t + x) = true
  · obtain ⟨t, ht, h1, h2⟩ := h
    exact Or.inr (unvN_lt (R := fun t => R (256 * t + x)) (R' := fun t => rsP v x R (v 1) (256 * t + x)) (fun j hj => rsP_mono hj _) h1 h2 8 ht)
  · have hb : ∀ t, t < 8 → rsP v x R (v 1) (256 * t + x) = true → R (256 * t + x) = true := fun t ht h2 => by
      cases e : R (256 * t + x) with
      | true => rfl
      | false => exact absurd ⟨t, ht, e, h2⟩ h
    refine Or.inl fun q hq ho => ?_
    have hv0 := hI.1
    obtain ⟨hqa, hqb, -⟩ := hI.pp hq
    obtain ⟨d1, d2⟩ := rs1_do (x := x) (R := rsP v x R q) ho
    have hm : ∀ j, rsP v x R (q + 1) j = true → rsP v x R (v 1) j = true := fun j hj => by
      have := rsP_le hj (v 1 - (q + 1))
      rw [show q + 1 + (v 1 - (q + 1)) = v 1 by omega] at this
      exact this
    exact ⟨fun h => hm _ (d1 (rsP_mono (hb _ (by omega) h) q)), fun h => hm _ (d2 (rsP_mono (hb _ (by omega) h) q))⟩
theorem rsQ_count (hI : Inv v) : ∀ k, Cl v x (rsQ v x R k) ∨ unv (fun t => rsQ v x R k (256 * t + x)) + k ≤ unv (fun t => R (256 * t + x))
  | 0 => Or.inr (Nat.le_refl _)
  | k + 1 => by
    rcases rsQ_count hI k with h | h
    · left
      rw [rsQ, rsP_id h (v 1) (Nat.le_refl _)]
      exact h
    · rcases rsP_pass (v := v) (x := x) (R := rsQ v x R k) hI with h2 | h2
      · exact Or.inl h2
      · right
        rw [rsQ]
        omega
theorem rsQ_cl (hI : Inv v) : Cl v x (rsQ v x R 8) := by
  have hv0 := hI.1
  by_cases h : ∃ t, t < 8 ∧ R (256 * t + x) = true
  · obtain ⟨t, ht, h1⟩ := h
    have h2 : unv (fun t => R (256 * t + x)) < 8 := by
      have := unvN_lt (R := fun _ => false) (R' := fun t => R (256 * t + x)) (fun j h => nomatch h) (t := t) rfl h1 8 ht
      have h3 := unvN_b (R := fun _ => false) 8
      unfold unv
      omega
    rcases rsQ_count (x := x) (R := R) hI 8 with h3 | h3
    · exact h3
    · omega
  · have hc : Cl v x R := fun q hq _ => by
      obtain ⟨hqa, hqb, -⟩ := hI.pp hq
      exact ⟨fun h9 => absurd ⟨_, by omega, h9⟩ h, fun h9 => absurd ⟨_, by omega, h9⟩ h⟩
    have hid : ∀ k, rsQ v x R k = R := fun k => by
      induction k with
      | zero => rfl
      | succ k ih => rw [rsQ, ih, rsP_id hc (v 1) (Nat.le_refl _)]
    rw [hid]
    exact hc
/-- greater sets stay as they are -/
theorem rsQ_frz {y t : Nat} (hx : x < y) (hy : y < 256) {k : Nat} (h : rsQ v x R k (256 * t + y) = true) : R (256 * t + y) = true := by
  refine rsQ_sound (P := fun i => i % 256 = y → R i = true) (fun j hj _ => hj) (fun q _ _ => ?_) k _ h (by omega)
  have := clr_le (a := x) (b := pM v q)
  exact ⟨fun _ h9 => absurd h9 (by omega), fun _ h9 => absurd h9 (by omega)⟩
theorem rsD_cl (hI : Inv v) {st : Nat} (hst : st < 256) : ∀ j, j ≤ st + 1 → ∀ y, y ≤ st → st < y + j → Cl v y (rsD v st R j)
  | 0, _, y, h1, h2 => absurd h2 (by omega)
  | j + 1, hj, y, h1, h2 => by
    rw [rsD]
    by_cases e : y = st - j
    · rw [e]; exact rsQ_cl hI
    · have ih := rsD_cl hI hst j (by omega) y h1 (by omega)
      intro q hq ho
      obtain ⟨c1, c2⟩ := ih q hq ho
      exact ⟨fun h => rsQ_mono (c1 (rsQ_frz (by omega) (by omega) h)) _, fun h => rsQ_mono (c2 (rsQ_frz (by omega) (by omega) h)) _⟩
theorem rsD_sound {st : Nat} {P : Nat → Prop} (h : ∀ j, R j = true → P j) (h1 : ∀ x, x ≤ st → ∀ q, q < v 1 → opv v q = true → (P (256 * pA v q + x) → P (256 * pB v q + clr x (pM v q))) ∧ (P (256 * pB v q + x) → P (256 * pA v q + clr x (pM v q)))) : ∀ n j, rsD v st R n j = true → P j
  | 0, j, hj => h j hj
  | n + 1, j, hj => rsQ_sound (rsD_sound h h1 n) (h1 (st - n) (by omega)) 8 j hj
end RS
/-- the start: one tank with its set -/
def rs0 (v : Nat → Nat) (a : Nat) : Nat → Bool := va_up (fun _ => false) (256 * a + tI v a) true
theorem rs0_iff {v : Nat → Nat} {a j : Nat} : rs0 v a j = true ↔ j = 256 * a + tI v a := by
  unfold rs0 va_up
  split
  · rename_i h; exact ⟨fun _ => h, fun _ => rfl⟩
  · rename_i h; exact ⟨(fun h9 => nomatch h9), fun h9 => absurd h9 h⟩
theorem RC.le {v : Nat → Nat} {a st t x : Nat} (h : RC v a st t x) : x ≤ st := h (fun _ x => x ≤ st) (Nat.le_refl _) (fun _ _ _ _ _ _ h => Nat.le_trans clr_le h)
theorem RC.fst {v : Nat → Nat} {a st q x : Nat} (hq : q < v 1) (ho : opv v q = true) (h : RC v a st (pA v q) x) : RC v a st (pB v q) (clr x (pM v q)) := fun S h0 hs => by
  have := hs q hq ho (pA v q) x (by simp [tch]) (h S h0 hs)
  rw [oth_a] at this
  exact this
theorem RC.snd {v : Nat → Nat} {a st q x : Nat} (hq : q < v 1) (ho : opv v q = true) (hne : pA v q ≠ pB v q) (h : RC v a st (pB v q) x) : RC v a st (pA v q) (clr x (pM v q)) := fun S h0 hs => by
  have := hs q hq ho (pB v q) x (by simp [tch]) (h S h0 hs)
  rw [oth_b hne] at this
  exact this
theorem rsD_iff {v : Nat → Nat} (hI : Inv v) {a : Nat} (ha : a < v 0) {t y : Nat} (hy : y < 256) : rsD v (tI v a) (rs0 v a) (tI v a + 1) (256 * t + y) = true ↔ RC v a (tI v a) t y := by
  have hst := (hI.tk ha).2.2.2
  have hs : ∀ j, rsD v (tI v a) (rs0 v a) (tI v a + 1) j = true → RC v a (tI v a) (j / 256) (j % 256) := by
    refine rsD_sound (P := fun j => RC v a (tI v a) (j / 256) (j % 256)) (fun j hj => ?_) (fun x hx q hq ho => ?_) (tI v a + 1)
    · rw [rs0_iff.mp hj, show (256 * a + tI v a) / 256 = a by omega, show (256 * a + tI v a) % 256 = tI v a by omega]
      exact fun S h0 _ => h0
    · have h1 := clr_le (a := x) (b := pM v q)
      have hne := (hI.pp hq).2.2.1
      have e : ∀ t z, z < 256 → (256 * t + z) / 256 = t ∧ (256 * t + z) % 256 = z := fun t z hz => by omega
      obtain ⟨a1, a2⟩ := e (pA v q) x (by omega)
      obtain ⟨b1, b2⟩ := e (pB v q) x (by omega)
      obtain ⟨c1, c2⟩ := e (pA v q) (clr x (pM v q)) (by omega)
      obtain ⟨d1, d2⟩ := e (pB v q) (clr x (pM v q)) (by omega)
      rw [a1, a2, b1, b2, c1, c2, d1, d2]
      exact ⟨fun h => h.fst hq ho, fun h => h.snd hq ho hne⟩
  constructor
  · intro h
    have := hs _ h
    rw [show (256 * t + y) / 256 = t by omega, show (256 * t + y) % 256 = y by omega] at this
    exact this
  · intro h
    refine (h (fun t y => y < 256 ∧ rsD v (tI v a) (rs0 v a) (tI v a + 1) (256 * t + y) = true) ⟨hst, rsD_mono (rs0_iff.mpr rfl) _⟩ (fun k hk ho t x ht hx => ?_)).2
    obtain ⟨hx1, hx2⟩ := hx
    have hxs : x ≤ tI v a := by
      have h9 := (hs _ hx2).le
      rw [show (256 * t + x) % 256 = x by omega] at h9
      exact h9
    refine ⟨clr_lt hx1, ?_⟩
    obtain ⟨c1, c2⟩ := rsD_cl (R := rs0 v a) hI hst (tI v a + 1) (Nat.le_refl _) x hxs (by omega) k hk ho
    by_cases e : pA v k = t
    · subst e
      rw [oth_a]
      exact c1 hx2
    · have e2 : pB v k = t := by simpa [tch, e] using ht
      subst e2
      rw [oth_b (hI.pp hk).2.2.1]
      exact c2 hx2
/-- something gets there iff it is connected -/
theorem RC_conn {v : Nat → Nat} (hI : Inv v) {a t st : Nat} (ha : a < v 0) : (∃ x, RC v a st t x) ↔ conB v 1 (-1) a t = true := by
  rw [conB_iff hI ha]
  have hadj : ∀ k, k < v 1 → opn (pV v k) (pD v k) = true → ∀ t, tch (pA v k) (pB v k) t = true → adj v 1 (-1) t (oth (pA v k) (pB v k) t) := fun k hk ho t ht => by
    have h12 := hI.2.1
    have hs : 1 ≤ pV v k := by
      have := of_decide_eq_true ho
      omega
    refine ⟨k, hk, ?_, ?_⟩
    · unfold use
      rw [ho, decide_eq_true hs, decide_eq_true (show nI k ≠ -1 from nI_neg (by omega))]
      rfl
    · by_cases e : pA v k = t
      · subst e
        rw [oth_a]
        exact Or.inl ⟨rfl, rfl⟩
      · have e2 : pB v k = t := by simpa [tch, e] using ht
        subst e2
        rw [oth_b (hI.pp hk).2.2.1]
        exact Or.inr ⟨rfl, rfl⟩
  constructor
  · rintro ⟨x, h⟩
    exact h (fun t _ => Conn v 1 (-1) a t) Conn.refl (fun k hk ho t x ht hx => hx.trans (Conn.adj (hadj k hk ho t ht)))
  · intro h
    refine h (fun t => ∃ x, RC v a st t x) ⟨st, fun S h0 _ => h0⟩ ?_
    rintro x y ⟨k, hk, hu, hxy⟩ ⟨z, hz⟩
    have ho : opv v k = true := by
      unfold use at hu
      rw [Bool.and_eq_true, Bool.and_eq_true] at hu
      exact hu.2.1
    rcases hxy with ⟨e1, e2⟩ | ⟨e1, e2⟩
    · subst e1; subst e2
      exact ⟨_, hz.fst hk ho⟩
    · subst e1; subst e2
      exact ⟨_, hz.snd hk ho (hI.pp hk).2.2.1⟩
/-- the least number of impurities among the sets that are in P -/
def lst (P : Nat → Bool) : Nat → Nat
  | 0 => 8
  | n + 1 => if P n = true then min (lst P n) (pops n) else lst P n
theorem lst_le {P : Nat → Bool} : ∀ n, lst P n ≤ 8 ∧ ∀ x, x < n → P x = true → lst P n ≤ pops x
  | 0 => ⟨Nat.le_refl _, fun x h => absurd h (by omega)⟩
  | n + 1 => by
    obtain ⟨h1, h2⟩ := lst_le (P := P) n
    rw [lst]
    split
    · refine ⟨by omega, fun x hx hP => ?_⟩
      by_cases e : x = n
      · subst e; omega
      · have := h2 x (by omega) hP; omega
    · rename_i hn
      refine ⟨h1, fun x hx hP => ?_⟩
      by_cases e : x = n
      · subst e; exact absurd hP hn
      · exact h2 x (by omega) hP
theorem lst_at {P : Nat → Bool} : ∀ n, lst P n = 8 ∨ ∃ x, x < n ∧ P x = true ∧ lst P n = pops x
  | 0 => Or.inl rfl
  | n + 1 => by
    rw [lst]
    rcases lst_at (P := P) n with h | ⟨x, hx, hP, h⟩
    · split
      · rename_i hn
        by_cases e : 8 ≤ pops n
        · exact Or.inl (by omega)
        · exact Or.inr ⟨n, by omega, hn, by omega⟩
      · exact Or.inl h
    · split
      · rename_i hn
        by_cases e : pops x ≤ pops n
        · exact Or.inr ⟨x, by omega, hP, by omega⟩
        · exact Or.inr ⟨n, by omega, hn, by omega⟩
      · exact Or.inr ⟨x, by omega, hP, h⟩
theorem fwl_spec {f : Nat → Int64} {t : Nat} : ∀ n, match fwl f t n with
    | none => ∀ x, x < n → rhas f t x = false
    | some w => (∃ x, x < n ∧ rhas f t x = true ∧ w = pops x) ∧ ∀ x, x < n → rhas f t x = true → w ≤ pops x
  | 0 => fun x h => absurd h (by omega)
  | n + 1 => by
    have ih := fwl_spec (f := f) (t := t) n
    rw [fwl]
    cases hr : rhas f t n with
    | false =>
      rw [Bool.false_and, if_neg (by decide)]
      cases e : fwl f t n with
      | none =>
        rw [e] at ih
        intro x hx
        by_cases e2 : x = n
        · rw [e2]; exact hr
        · exact ih x (by omega)
      | some w =>
        rw [e] at ih
        obtain ⟨⟨x, hx, h1, h2⟩, h3⟩ := ih
        refine ⟨⟨x, by omega, h1, h2⟩, fun z hz h4 => ?_⟩
        by_cases e2 : z = n
        · rw [e2, hr] at h4; cases h4
        · exact h3 z (by omega) h4
    | true =>
      cases e : fwl f t n with
      | none =>
        rw [e] at ih
        rw [show flt (pops n) none = true from rfl, Bool.and_self, if_pos rfl]
        refine ⟨⟨n, by omega, hr, rfl⟩, fun z hz h4 => ?_⟩
        by_cases e2 : z = n
        · rw [e2]; exact Nat.le_refl _
        · rw [ih z (by omega)] at h4; cases h4
      | some w =>
        rw [e] at ih
        obtain ⟨⟨x, hx, h1, h2⟩, h3⟩ := ih
        by_cases hw : pops n < w
        · rw [show flt (pops n) (some w) = true from decide_eq_true hw, Bool.and_self, if_pos rfl]
          refine ⟨⟨n, by omega, hr, rfl⟩, fun z hz h4 => ?_⟩
          by_cases e2 : z = n
          · rw [e2]; exact Nat.le_refl _
          · have := h3 z (by omega) h4; omega
        · rw [show flt (pops n) (some w) = false from decide_eq_false hw, Bool.and_false, if_neg (by decide)]
          refine ⟨⟨x, by omega, h1, h2⟩, fun z hz h4 => ?_⟩
          by_cases e2 : z = n
          · rw [e2]; omega
          · exact h3 z (by omega) h4
def clM (v : Nat → Nat) (a t : Nat) : Nat := lst (fun x => rsD v (tI v a) (rs0 v a) (tI v a + 1) (256 * t + x)) 256
theorem clM_le {v : Nat → Nat} {a t : Nat} : clM v a t ≤ 8 := (lst_le 256).1
/-- the class' answer and the twin's -/
theorem clean_eq {v : Nat → Nat} (hI : Inv v) {f : Nat → Int64} {a t : Nat} (ha : a < v 0) (hf : ∀ t x, x < 256 → (rhas f t x = true ↔ RC v a (tI v a) t x)) : oI (fwl f t (tI v a + 1)) = if conB v 1 (-1) a t = true then nI (clM v a t) else -1 := by
  have hst := (hI.tk ha).2.2.2
  have h1 := fwl_spec (f := f) (t := t) (tI v a + 1)
  have hP : ∀ x, x < 256 → (rsD v (tI v a) (rs0 v a) (tI v a + 1) (256 * t + x) = true ↔ rhas f t x = true) := fun x hx => (rsD_iff hI ha hx).trans (hf t x hx).symm
  cases e : fwl f t (tI v a + 1) with
  | none =>
    rw [e] at h1
    rw [if_neg (fun h => ?_)]
    · rfl
    · obtain ⟨x, hx⟩ := (RC_conn hI ha (st := tI v a)).mpr h
      have := (hf t x (by have := hx.le; omega)).mpr hx
      rw [h1 x (by have := hx.le; omega)] at this
      cases this
  | some w =>
    rw [e] at h1
    obtain ⟨⟨x, hx, hr, hw⟩, h3⟩ := h1
    rw [if_pos ((RC_conn hI ha (st := tI v a)).mp ⟨x, (hf t x (by omega)).mp hr⟩)]
    show nI w = nI (clM v a t)
    congr 1
    obtain ⟨l1, l2⟩ := lst_le (P := fun x => rsD v (tI v a) (rs0 v a) (tI v a + 1) (256 * t + x)) 256
    have hle : clM v a t ≤ w := by rw [hw]; exact l2 x (by omega) ((hP x (by omega)).mpr hr)
    have h8 := pops_lt x (by omega)
    rcases lst_at (P := fun x => rsD v (tI v a) (rs0 v a) (tI v a + 1) (256 * t + x)) 256 with h | ⟨z, hz, hPz, h⟩
    · have : clM v a t = 8 := h
      omega
    · have hz2 : rhas f t z = true := (hP z hz).mp hPz
      have hzs : z ≤ tI v a := ((hf t z hz).mp hz2).le
      have := h3 z (by omega) hz2
      have h9 : clM v a t = pops z := h
      omega
