/-! ===== what is joined, by passes over the pipes: the same as connected ===== -/
set_option maxRecDepth 100000
def jp (v : Nat → Nat) (s : Nat) (c : Int32) (R : Nat → Bool) : Nat → Nat → Bool
  | 0 => R
  | n + 1 => if (use v s c n && (jp v s c R n (pA v n) || jp v s c R n (pB v n))) = true then va_up (va_up (jp v s c R n) (pA v n) true) (pB v n) true else jp v s c R n
def jq (v : Nat → Nat) (s : Nat) (c : Int32) (R : Nat → Bool) : Nat → Nat → Bool
  | 0 => R
  | n + 1 => jp v s c (jq v s c R n) (v 1)
def conB (v : Nat → Nat) (s : Nat) (c : Int32) (a b : Nat) : Bool := jq v s c (fun j => decide (j = a)) 8 b
theorem jp_mono {v : Nat → Nat} {s : Nat} {c : Int32} {R : Nat → Bool} {j : Nat} (h : R j = true) : ∀ n, jp v s c R n j = true
  | 0 => h
  | n + 1 => by
    have ih := jp_mono (v := v) (s := s) (c := c) h n
    rw [jp]
    split
    · unfold va_up
      split
      · rfl
      · split
        · rfl
        · exact ih
    · exact ih
theorem jp_sound {v : Nat → Nat} {s : Nat} {c : Int32} {R : Nat → Bool} {S : Nat → Prop} (hR : ∀ j, R j = true → S j) (hS : ∀ x y, adj v s c x y → S x → S y) : ∀ n, n ≤ v 1 → ∀ j, jp v s c R n j = true → S j
  | 0, _, j, h => hR j h
  | n + 1, hn, j, h => by
    have ih := jp_sound hR hS n (by omega)
    rw [jp] at h
    split at h
    · rename_i hc
      rw [Bool.and_eq_true, Bool.or_eq_true] at hc
      have h1 : adj v s c (pA v n) (pB v n) := ⟨n, by omega, hc.1, Or.inl ⟨rfl, rfl⟩⟩
      have hA : S (pA v n) := hc.2.elim (ih _) (fun h => hS _ _ h1.symm (ih _ h))
      have hB : S (pB v n) := hS _ _ h1 hA
      unfold va_up at h
      split at h
      · rename_i e; rw [e]; exact hB
      · split at h
        · rename_i e; rw [e]; exact hA
        · exact ih j h
    · exact ih j h
theorem jp_fix {v : Nat → Nat} {s : Nat} {c : Int32} {R : Nat → Bool} (h : ∀ j, jp v s c R (v 1) j = true → R j = true) : ∀ x y, adj v s c x y → R x = true → R y = true := by
  intro x y ⟨k, hk, hu, hxy⟩ hx
  have hm : ∀ n m, n ≤ m → ∀ j, jp v s c R n j = true → jp v s c R m j = true := by
    intro n m hnm
    induction hnm with
    | refl => exact fun j h => h
    | step _ ih =>
      intro j hj
      have := ih j hj
      rw [jp]
      split
      · unfold va_up
        split
        · rfl
        · split
          · rfl
          · exact this
      · exact this
  have h1 : jp v s c R k x = true := jp_mono hx k
  have h2 : jp v s c R (k + 1) y = true := by
    have hc : (use v s c k && (jp v s c R k (pA v k) || jp v s c R k (pB v k))) = true := by
      rw [Bool.and_eq_true, Bool.or_eq_true]
      refine ⟨hu, ?_⟩
      rcases hxy with ⟨e, -⟩ | ⟨e, -⟩
      · exact Or.inl (by rw [e]; exact h1)
      · exact Or.inr (by rw [e]; exact h1)
    rw [jp, if_pos hc]
    unfold va_up
    rcases hxy with ⟨-, e⟩ | ⟨-, e⟩
    · rw [if_pos e.symm]
    · split
      · rfl
      · rw [if_pos e.symm]
  exact h y (hm (k + 1) (v 1) (by omega) y h2)
theorem jq_mono {v : Nat → Nat} {s : Nat} {c : Int32} {R : Nat → Bool} {j : Nat} (h : R j = true) : ∀ n, jq v s c R n j = true
  | 0 => h
  | n + 1 => jp_mono (jq_mono h n) _
theorem jq_sound {v : Nat → Nat} {s : Nat} {c : Int32} {R : Nat → Bool} {S : Nat → Prop} (hR : ∀ j, R j = true → S j) (hS : ∀ x y, adj v s c x y → S x → S y) : ∀ n j, jq v s c R n j = true → S j
  | 0, j, h => hR j h
  | n + 1, j, h => jp_sound (jq_sound hR hS n) hS _ (Nat.le_refl _) j h
theorem jq_closed {v : Nat → Nat} (hI : Inv v) {s : Nat} {c : Int32} {R : Nat → Bool} : ∀ n, (∀ x y, adj v s c x y → jq v s c R n x = true → jq v s c R n y = true) ∨ unv (jq v s c R n) + n ≤ unv R
  | 0 => Or.inr (Nat.le_refl _)
  | n + 1 => by
    by_cases hf : ∀ j, jp v s c (jq v s c R n) (v 1) j = true → jq v s c R n j = true
    · refine Or.inl ?_
      have e : jq v s c R (n + 1) = jq v s c R n := by
        funext j
        cases h : jq v s c R n j with
        | true => exact jq_mono (n := 1) (R := jq v s c R n) h
        | false =>
          cases h2 : jq v s c R (n + 1) j with
          | false => rfl
          | true =>
            rw [hf j h2] at h
            cases h
      rw [e]
      exact jp_fix hf
    · rcases jq_closed hI (s := s) (c := c) (R := R) n with h | h
      · exact absurd (fun j hj => jp_sound (S := fun j => jq v s c R n j = true) (fun _ h => h) h _ (Nat.le_refl _) j hj) hf
      · refine Or.inr ?_
        obtain ⟨j, hj1, hj2⟩ : ∃ j, jp v s c (jq v s c R n) (v 1) j = true ∧ jq v s c R n j = false := by
          apply Classical.byContradiction
          intro hno
          apply hf
          intro j hj
          cases h2 : jq v s c R n j with
          | true => rfl
          | false => exact absurd ⟨j, hj, h2⟩ hno
        have hj8 : j < 8 := by
          have hS : ∀ j, jp v s c (jq v s c R n) (v 1) j = true → jq v s c R n j = true ∨ j < v 0 := fun j hj => jp_sound (S := fun j => jq v s c R n j = true ∨ j < v 0) (fun _ h => Or.inl h) (fun x y ha _ => Or.inr (ha.lt hI).2) _ (Nat.le_refl _) j hj
          have := hI.1
          rcases hS j hj1 with h | h
          · rw [h] at hj2; cases hj2
          · omega
        have := unvN_lt (R := jq v s c R n) (R' := jq v s c R (n + 1)) (fun j h => jp_mono h _) hj2 hj1 8 hj8
        unfold unv at h ⊢
        omega
theorem conB_iff {v : Nat → Nat} (hI : Inv v) {s : Nat} {c : Int32} {a b : Nat} (ha : a < v 0) : conB v s c a b = true ↔ Conn v s c a b := by
  have h0 := hI.1
  constructor
  · intro h S hS hcl
    exact jq_sound (S := S) (fun j hj => by rw [of_decide_eq_true hj]; exact hS) hcl 8 b h
  · intro h
    have hcl : ∀ x y, adj v s c x y → jq v s c (fun j => decide (j = a)) 8 x = true → jq v s c (fun j => decide (j = a)) 8 y = true := by
      rcases jq_closed hI (s := s) (c := c) (R := fun j => decide (j = a)) 8 with h | h
      · exact h
      · intro x y hxy _
        have h1 : unv (fun j => decide (j = a)) < 8 := by
          have := unvN_lt (R := fun _ => false) (R' := fun j => decide (j = a)) (fun j h => nomatch h) (t := a) rfl (by simp) 8 (by omega)
          have h2 := unvN_b (R := fun _ => false) 8
          unfold unv
          omega
        omega
    exact h (fun j => jq v s c (fun j => decide (j = a)) 8 j = true) (jq_mono (by simp) 8) hcl
/-- how many of the first n tanks are the first of their group -/
def grN (v : Nat → Nat) : Nat → Nat
  | 0 => 0
  | n + 1 => grN v n + if (List.range n).any (fun t => conB v 1 (-1) t n) = true then 0 else 1
def brB (v : Nat → Nat) (q : Nat) : Bool := opn (pV v q) (pD v q) && !conB v 1 (nI q) (pA v q) (pB v q)
def brN (v : Nat → Nat) : Nat → Nat
  | 0 => 0
  | n + 1 => brN v n + if brB v n = true then 1 else 0
/-- the tanks that are connected with one of the first k -/
def GI (v : Nat → Nat) (R : Nat → Bool) (k : Nat) : Prop := ∀ j, R j = true ↔ ∃ t, t < k ∧ Conn v 1 (-1) t j
theorem GI.zero {v : Nat → Nat} : GI v (fun _ => false) 0 := fun j => ⟨fun h => (nomatch h), fun ⟨t, ht, _⟩ => absurd ht (by omega)⟩
theorem GI.seen {v : Nat → Nat} (hI : Inv v) {R : Nat → Bool} {k : Nat} (h : GI v R k) (hk : k < v 0) : R k = (List.range k).any (fun t => conB v 1 (-1) t k) := by
  have h1 : R k = true ↔ (List.range k).any (fun t => conB v 1 (-1) t k) = true := by
    rw [h k, List.any_eq_true]
    constructor
    · rintro ⟨t, ht, hc⟩
      exact ⟨t, List.mem_range.mpr ht, (conB_iff hI (by omega)).mpr hc⟩
    · rintro ⟨t, ht, hc⟩
      have ht := List.mem_range.mp ht
      exact ⟨t, ht, (conB_iff hI (by omega)).mp hc⟩
  cases e : R k with
  | true => exact (h1.mp e).symm
  | false =>
    cases e2 : (List.range k).any (fun t => conB v 1 (-1) t k) with
    | false => rfl
    | true => rw [h1.mpr e2] at e; cases e
theorem GI.old {v : Nat → Nat} {R : Nat → Bool} {k : Nat} (h : GI v R k) (hk : R k = true) : GI v R (k + 1) := by
  intro j
  rw [h j]
  constructor
  · rintro ⟨t, ht, hc⟩
    exact ⟨t, by omega, hc⟩
  · rintro ⟨t, ht, hc⟩
    by_cases e : t = k
    · subst e
      obtain ⟨t0, h1, h2⟩ := (h t).mp hk
      exact ⟨t0, h1, h2.trans hc⟩
    · exact ⟨t, by omega, hc⟩
theorem GI.next {v : Nat → Nat} {R R' : Nat → Bool} {k : Nat} (h : GI v R k) (hP : WP v 1 (-1) R k R') : GI v R' (k + 1) := by
  obtain ⟨h1, h2, h3, h4⟩ := hP
  have hcl : ∀ x y, adj v 1 (-1) x y → R' x = true → R' y = true := by
    intro x y hxy hx
    cases e : R x with
    | true =>
      obtain ⟨t, ht, hc⟩ := (h x).mp e
      exact h2 y ((h y).mpr ⟨t, ht, hc.trans (Conn.adj hxy)⟩)
    | false => exact h4 x hx e y hxy
  intro j
  constructor
  · intro hj
    rcases h3 j hj with e | e
    · obtain ⟨t, ht, hc⟩ := (h j).mp e
      exact ⟨t, by omega, hc⟩
    · exact ⟨k, by omega, e⟩
  · rintro ⟨t, ht, hc⟩
    by_cases e : t = k
    · subst e
      exact hc (fun j => R' j = true) h1 hcl
    · exact h2 j ((h j).mpr ⟨t, by omega, hc⟩)
theorem WP.con {v : Nat → Nat} (hI : Inv v) {s : Nat} {c : Int32} {a b : Nat} {R' : Nat → Bool} (ha : a < v 0) (h : WP v s c (fun _ => false) a R') : R' b = conB v s c a b := by
  obtain ⟨h1, h2, h3, h4⟩ := h
  have h5 : R' b = true ↔ conB v s c a b = true := by
    rw [conB_iff hI ha]
    constructor
    · intro hb
      rcases h3 b hb with e | e
      · cases e
      · exact e
    · intro hc
      exact hc (fun j => R' j = true) h1 (fun x y hxy hx => h4 x hx rfl y hxy)
  cases e : R' b with
  | true => exact (h5.mp e).symm
  | false =>
    cases e2 : conB v s c a b with
    | false => rfl
    | true => rw [h5.mpr e2] at e; cases e
