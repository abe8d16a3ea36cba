/-! ===== widths: pure ===== -/
set_option maxRecDepth 100000
/-- the greatest setting not above n with which a and b are connected -/
def wb (v : Nat → Nat) (a b : Nat) : Nat → Nat
  | 0 => 0
  | n + 1 => if conB v (n + 1) (-1) a b = true then n + 1 else wb v a b n
theorem wb_t {v : Nat → Nat} {a b n : Nat} (h0 : 0 < n) (h : conB v n (-1) a b = true) : wb v a b n = n := by
  cases n with
  | zero => omega
  | succ n => exact if_pos h
theorem wb_f {v : Nat → Nat} {a b n : Nat} (h0 : 0 < n) (h : conB v n (-1) a b = false) : wb v a b n = wb v a b (n - 1) := by
  cases n with
  | zero => omega
  | succ n => exact if_neg (by rw [h]; decide)
theorem wb_le {v : Nat → Nat} {a b : Nat} : ∀ n, wb v a b n ≤ n
  | 0 => Nat.le_refl _
  | n + 1 => by
    have := wb_le (v := v) (a := a) (b := b) n
    rw [wb]
    split <;> omega
theorem dec_nI {a b : Nat} (h : b = a - 1) (h0 : 0 < a) : nI a + Int32.ofInt (-1) = nI b := by
  subst h
  have h1 : nI (a - 1) + nI 1 = nI a := by rw [nI_add]; congr 1; omega
  rw [← h1, Int32.add_assoc, show nI 1 + Int32.ofInt (-1) = 0 by decide, Int32.add_zero]
abbrev wid (v : Nat → Nat) (a b : Nat) : Nat := wb v a b 4
theorem use_mono {v : Nat → Nat} {s s' : Nat} {c : Int32} {k : Nat} (h : s' ≤ s) (hu : use v s c k = true) : use v s' c k = true := by
  unfold use at hu ⊢
  rw [Bool.and_eq_true, Bool.and_eq_true] at hu ⊢
  exact ⟨hu.1, hu.2.1, decide_eq_true (Nat.le_trans h (of_decide_eq_true hu.2.2))⟩
theorem Conn.mono {v : Nat → Nat} {s s' : Nat} {c : Int32} {a b : Nat} (h : s' ≤ s) (hc : Conn v s c a b) : Conn v s' c a b :=
  fun S h1 h2 => hc S h1 (fun x y ⟨k, hk, hu, he⟩ hx => h2 x y ⟨k, hk, use_mono h hu, he⟩ hx)
theorem wb_iff {v : Nat → Nat} (hI : Inv v) {a b : Nat} (ha : a < v 0) {s : Nat} (hs : 0 < s) : ∀ n, s ≤ n → (s ≤ wb v a b n ↔ Conn v s (-1) a b)
  | 0, h => absurd h (by omega)
  | n + 1, h => by
    rw [wb]
    by_cases hc : conB v (n + 1) (-1) a b = true
    · rw [if_pos hc]
      exact ⟨fun _ => ((conB_iff hI ha).mp hc).mono h, fun _ => h⟩
    · rw [if_neg hc]
      by_cases e : s = n + 1
      · subst e
        have := wb_le (v := v) (a := a) (b := b) n
        exact ⟨fun h9 => absurd h9 (by omega), fun h9 => absurd ((conB_iff hI ha).mpr h9) hc⟩
      · exact wb_iff hI ha hs n (by omega)
theorem wid_iff {v : Nat → Nat} (hI : Inv v) {a b s : Nat} (ha : a < v 0) (hs : 0 < s) (h4 : s ≤ 4) : s ≤ wid v a b ↔ Conn v s (-1) a b := wb_iff hI ha hs 4 h4
theorem wid_self {v : Nat → Nat} (hI : Inv v) {a : Nat} (ha : a < v 0) : wid v a a = 4 := by
  have h1 := (wid_iff hI ha (by decide) (Nat.le_refl 4)).mpr (Conn.refl (v := v) (c := -1) (t := a))
  have h2 := wb_le (v := v) (a := a) (b := a) 4
  unfold wid at h1 ⊢
  omega
/-- pipe k leads from x to y -/
def edg (v : Nat → Nat) (k x y : Nat) : Prop := opn (pV v k) (pD v k) = true ∧ ((pA v k = x ∧ pB v k = y) ∨ (pB v k = x ∧ pA v k = y))
/-- of the widths W with the tanks D done, and the first n pipes of t -/
def WD (v : Nat → Nat) (a : Nat) (W : Nat → Nat) (D : Nat → Bool) (t n : Nat) : Prop :=
  (∀ j, W j ≤ wid v a j) ∧ (∀ j, D j = true → W j = wid v a j) ∧ (∀ x, D x = true → ∀ k, k < v 1 → (x = t → k < n) → ∀ y, edg v k x y → min (W x) (pV v k) ≤ W y) ∧ W a = 4
theorem nI_neg {k : Nat} (h : k < 2 ^ 31) : nI k ≠ -1 := by
  intro e
  have h1 := nI_toInt h
  rw [e] at h1
  have h2 : (-1 : Int32).toInt = -1 := by decide
  omega
theorem edg_adj {v : Nat → Nat} (hI : Inv v) {k x y s : Nat} (hk : k < v 1) (h : edg v k x y) (hs : s ≤ pV v k) : adj v s (-1) x y :=
  ⟨k, hk, by
    have := hI.2.1
    unfold use
    rw [Bool.and_eq_true, Bool.and_eq_true]
    exact ⟨decide_eq_true (nI_neg (by omega)), h.1, decide_eq_true hs⟩, h.2⟩
/-- the undone tank of the greatest width has its width right -/
theorem WD.pick {v : Nat → Nat} (hI : Inv v) {a : Nat} (ha : a < v 0) {W : Nat → Nat} {D : Nat → Bool} {t0 : Nat} (h : WD v a W D t0 (v 1)) {t w : Nat} (hD : D t = false) (hw : w = W t) (hmax : ∀ j, j < v 0 → D j = false → W j ≤ w) : W t = wid v a t := by
  obtain ⟨h1, h2, h3, h4⟩ := h
  apply Classical.byContradiction
  intro hne
  have hlt : W t < wid v a t := by have := h1 t; omega
  obtain ⟨s, hs⟩ : ∃ s, s = wid v a t := ⟨_, rfl⟩
  have hs4 : s ≤ 4 := by rw [hs]; exact wb_le 4
  have hc : Conn v s (-1) a t := (wid_iff hI ha (by omega) hs4).mp (by omega)
  have hDa : D a = true := by
    cases e : D a with
    | true => rfl
    | false => have := hmax a ha e; omega
  have := hc (fun j => D j = true ∧ s ≤ W j) ⟨hDa, by omega⟩ (fun x y ⟨k, hk, hu, he⟩ ⟨hx1, hx2⟩ => by
    unfold use at hu
    rw [Bool.and_eq_true, Bool.and_eq_true] at hu
    have hy : min (W x) (pV v k) ≤ W y := h3 x hx1 k hk (fun _ => hk) y ⟨hu.2.1, he⟩
    have hp : s ≤ pV v k := of_decide_eq_true hu.2.2
    have hy0 : y < v 0 := by
      obtain ⟨p1, p2, -⟩ := hI.pp hk
      rcases he with ⟨-, e⟩ | ⟨-, e⟩ <;> rw [← e] <;> assumption
    refine ⟨?_, by omega⟩
    cases e : D y with
    | true => rfl
    | false => have := hmax y hy0 e; omega)
  rw [hD] at this
  cases this.1
theorem WD.mark {v : Nat → Nat} {a : Nat} {W : Nat → Nat} {D : Nat → Bool} {t0 t : Nat} (h : WD v a W D t0 (v 1)) (hD : D t = false) (ht : W t = wid v a t) : WD v a W (va_up D t true) t 0 := by
  obtain ⟨h1, h2, h3, h4⟩ := h
  refine ⟨h1, fun j hj => ?_, fun x hx k hk hn y hy => ?_, h4⟩
  · by_cases e : j = t
    · rw [e]; exact ht
    · rw [va_up_ne _ _ e] at hj; exact h2 j hj
  · by_cases e : x = t
    · exact absurd (hn e) (by omega)
    · rw [va_up_ne _ _ e] at hx
      exact h3 x hx k hk (fun _ => hk) y hy
theorem WD.skip {v : Nat → Nat} {a : Nat} {W : Nat → Nat} {D : Nat → Bool} {t n : Nat} (h : WD v a W D t n) (hn : (opn (pV v n) (pD v n) && tch (pA v n) (pB v n) t) = false) : WD v a W D t (n + 1) := by
  obtain ⟨h1, h2, h3, h4⟩ := h
  refine ⟨h1, h2, fun x hx k hk hn9 y hy => ?_, h4⟩
  by_cases e : x = t ∧ k = n
  · obtain ⟨e1, e2⟩ := e
    subst e1 e2
    rw [hy.1, Bool.true_and] at hn
    exact absurd (show tch (pA v k) (pB v k) x = true from decide_eq_true (hy.2.elim (fun h => Or.inl h.1) (fun h => Or.inr h.1))) (by rw [hn]; decide)
  · exact h3 x hx k hk (fun ex => by have := hn9 ex; omega) y hy
theorem WD.relax {v : Nat → Nat} (hI : Inv v) {a : Nat} (ha : a < v 0) {W : Nat → Nat} {D : Nat → Bool} {t n : Nat} (h : WD v a W D t n) (hn : n < v 1) (hD : D t = true) (he : (opn (pV v n) (pD v n) && tch (pA v n) (pB v n) t) = true) :
    WD v a (va_up W (oth (pA v n) (pB v n) t) (max (W (oth (pA v n) (pB v n) t)) (min (W t) (pV v n)))) D t (n + 1) := by
  obtain ⟨h1, h2, h3, h4⟩ := h
  rw [Bool.and_eq_true] at he
  have hpp := hI.pp hn
  have hed : edg v n t (oth (pA v n) (pB v n) t) := ⟨he.1, tch_oth he.2 hpp.2.2.1⟩
  generalize ho : oth (pA v n) (pB v n) t = o at hed
  have hm : min (W t) (pV v n) ≤ wid v a o := by
    by_cases h0 : min (W t) (pV v n) = 0
    · omega
    · have c1 : Conn v (min (W t) (pV v n)) (-1) a t := (wid_iff hI ha (by omega) (by omega)).mp (by have := h1 t; omega)
      exact (wid_iff hI ha (by omega) (by omega)).mpr (c1.trans (Conn.adj (edg_adj hI hn hed (Nat.min_le_right _ _))))
  have hle : ∀ j, va_up W o (max (W o) (min (W t) (pV v n))) j ≤ wid v a j := fun j => by
    unfold va_up
    split
    · rename_i e
      subst e
      have := h1 j
      omega
    · exact h1 j
  have hge : ∀ j, W j ≤ va_up W o (max (W o) (min (W t) (pV v n))) j := fun j => by
    unfold va_up
    split
    · rename_i e
      subst e
      omega
    · exact Nat.le_refl _
  have hdn : ∀ j, D j = true → va_up W o (max (W o) (min (W t) (pV v n))) j = W j := fun j hj => by
    have e1 := hle j
    have e2 := hge j
    have e3 := h2 j hj
    omega
  refine ⟨hle, fun j hj => (hdn j hj).trans (h2 j hj), fun x hx k hk hk9 y hy => ?_, ?_⟩
  · rw [hdn x hx]
    by_cases e : x = t ∧ k = n
    · obtain ⟨e1, e2⟩ := e
      subst e1 e2
      have hyo : y = o := by
        obtain ⟨-, q⟩ := hy
        obtain ⟨-, q2⟩ := hed
        have hne := hpp.2.2.1
        omega
      rw [hyo, va_up_self]
      omega
    · exact Nat.le_trans (h3 x hx k hk (fun ex => by have := hk9 ex; omega) y hy) (hge y)
  · have e1 := hle a
    have e2 := hge a
    rw [wid_self hI ha] at e1
    omega
theorem WD.start {v : Nat → Nat} (hI : Inv v) {a : Nat} (ha : a < v 0) {t0 : Nat} : WD v a (va_up (fun _ => 0) a 4) (fun _ => false) t0 (v 1) := by
  refine ⟨fun j => ?_, fun j hj => (nomatch hj), fun x hx => (nomatch hx), va_up_self _ _ _⟩
  unfold va_up
  split
  · rename_i e
    rw [e, wid_self hI ha]
    exact Nat.le_refl _
  · exact Nat.zero_le _
/-- the undone tank of the greatest width above 0 among the first n: the first of them -/
def wlt (W : Nat → Nat) (n : Nat) : Option Nat → Bool
  | none => true
  | some t => decide (W t < W n)
def wst (W : Nat → Nat) (D : Nat → Bool) : Nat → Option Nat
  | 0 => none
  | n + 1 => if (!D n && (decide (0 < W n) && wlt W n (wst W D n))) = true then some n else wst W D n
def oI : Option Nat → Int32
  | none => -1
  | some t => nI t
theorem wst_spec {W : Nat → Nat} {D : Nat → Bool} : ∀ n, match wst W D n with
    | none => ∀ j, j < n → D j = true ∨ W j = 0
    | some t => t < n ∧ D t = false ∧ 0 < W t ∧ ∀ j, j < n → D j = false → W j ≤ W t
  | 0 => fun j hj => absurd hj (by omega)
  | n + 1 => by
    have ih := wst_spec (W := W) (D := D) n
    rw [wst]
    by_cases hc : (!D n && (decide (0 < W n) && wlt W n (wst W D n))) = true
    · rw [if_pos hc]
      rw [Bool.and_eq_true, Bool.and_eq_true, Bool.not_eq_true'] at hc
      obtain ⟨c1, c2, c3⟩ := hc
      have c2 := of_decide_eq_true c2
      refine ⟨by omega, c1, c2, fun j hj hd => ?_⟩
      by_cases e : j = n
      · rw [e]; exact Nat.le_refl _
      · cases hw : wst W D n with
        | none =>
          rw [hw] at ih
          rcases ih j (by omega) with h | h
          · rw [h] at hd; cases hd
          · omega
        | some t =>
          rw [hw] at ih c3
          have := ih.2.2.2 j (by omega) hd
          have h3 : W t < W n := of_decide_eq_true c3
          omega
    · rw [if_neg hc]
      cases hw : wst W D n with
      | none =>
        rw [hw] at ih hc
        intro j hj
        by_cases e : j = n
        · subst e
          cases hd : D j with
          | true => exact Or.inl rfl
          | false =>
            refine Or.inr ?_
            rw [hd] at hc
            simp [wlt] at hc
            exact hc
        · exact ih j (by omega)
      | some t =>
        rw [hw] at ih hc
        refine ⟨by omega, ih.2.1, ih.2.2.1, fun j hj hd => ?_⟩
        by_cases e : j = n
        · subst e
          rw [hd] at hc
          simp [wlt] at hc
          by_cases h0 : 0 < W j
          · exact hc h0
          · omega
        · exact ih.2.2.2 j (by omega) hd
theorem WD.fin {v : Nat → Nat} (hI : Inv v) {a : Nat} (ha : a < v 0) {W : Nat → Nat} {D : Nat → Bool} {t0 : Nat} (h : WD v a W D t0 (v 1)) (hz : ∀ j, j < v 0 → D j = true ∨ W j = 0) {j : Nat} (hj : j < v 0) : W j = wid v a j := by
  rcases hz j hj with e | e
  · exact h.2.1 j e
  · cases hd : D j with
    | true => exact h.2.1 j hd
    | false => exact h.pick hI ha hd e.symm (fun i hi hdi => by
        rcases hz i hi with e2 | e2
        · rw [e2] at hdi; cases hdi
        · omega)
theorem wst_start0 {a : Nat} : ∀ n, wst (va_up (fun _ => 0) a 4) (fun _ => false) n = if a < n then some a else none
  | 0 => rfl
  | n + 1 => by
    rw [wst, wst_start0 n]
    by_cases e : a = n
    · subst e
      rw [if_neg (by omega : ¬ a < a), if_pos (by omega : a < a + 1), va_up_self]
      rfl
    · rw [va_up_ne _ _ (Ne.symm e)]
      rw [if_neg (by simp)]
      by_cases h : a < n
      · rw [if_pos h, if_pos (by omega)]
      · rw [if_neg h, if_neg (by omega)]
theorem wst_start {a n : Nat} (h : a < n) : wst (va_up (fun _ => 0) a 4) (fun _ => false) n = some a := by
  rw [wst_start0, if_pos h]
