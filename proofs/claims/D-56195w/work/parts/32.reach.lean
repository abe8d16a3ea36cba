/-! ===== walking through pipes: pure ===== -/
set_option maxRecDepth 100000
/-- pipe k may be gone through: it isn't c, it is open, its setting is at least s -/
def use (v : Nat → Nat) (s : Nat) (c : Int32) (k : Nat) : Bool := decide (nI k ≠ c) && (opn (pV v k) (pD v k) && decide (s ≤ pV v k))
def adj (v : Nat → Nat) (s : Nat) (c : Int32) (x y : Nat) : Prop := ∃ k, k < v 1 ∧ use v s c k = true ∧ ((pA v k = x ∧ pB v k = y) ∨ (pB v k = x ∧ pA v k = y))
/-- connected: in every set that is closed -/
def Conn (v : Nat → Nat) (s : Nat) (c : Int32) (t b : Nat) : Prop := ∀ S : Nat → Prop, S t → (∀ x y, adj v s c x y → S x → S y) → S b
theorem Conn.refl {v : Nat → Nat} {s : Nat} {c : Int32} {t : Nat} : Conn v s c t t := fun _ h _ => h
theorem Conn.trans {v : Nat → Nat} {s : Nat} {c : Int32} {x y z : Nat} (h1 : Conn v s c x y) (h2 : Conn v s c y z) : Conn v s c x z := fun S h hs => h2 S (h1 S h hs) hs
theorem Conn.adj {v : Nat → Nat} {s : Nat} {c : Int32} {x y : Nat} (h : adj v s c x y) : Conn v s c x y := fun _ h1 hs => hs x y h h1
theorem adj.symm {v : Nat → Nat} {s : Nat} {c : Int32} {x y : Nat} (h : adj v s c x y) : adj v s c y x := by
  obtain ⟨k, h1, h2, h3⟩ := h
  exact ⟨k, h1, h2, h3.elim (fun h => Or.inr ⟨h.2, h.1⟩) (fun h => Or.inl ⟨h.2, h.1⟩)⟩
theorem Conn.symm {v : Nat → Nat} {s : Nat} {c : Int32} {x y : Nat} (h : Conn v s c x y) : Conn v s c y x :=
  h (fun b => Conn v s c b x) Conn.refl (fun _ _ ha hx => (Conn.adj ha.symm).trans hx)
theorem adj.lt {v : Nat → Nat} (hI : Inv v) {s : Nat} {c : Int32} {x y : Nat} (h : adj v s c x y) : x < v 0 ∧ y < v 0 := by
  obtain ⟨k, h1, -, h3⟩ := h
  obtain ⟨a, b, -⟩ := hI.pp h1
  rcases h3 with ⟨e1, e2⟩ | ⟨e1, e2⟩
  · rw [← e1, ← e2]; exact ⟨a, b⟩
  · rw [← e1, ← e2]; exact ⟨b, a⟩
theorem Conn.lt {v : Nat → Nat} (hI : Inv v) {s : Nat} {c : Int32} {x y : Nat} (h : Conn v s c x y) (hx : x < v 0) : y < v 0 := h (fun b => b < v 0) hx (fun _ _ ha _ => (ha.lt hI).2)
/-- of the first n how many are not reached -/
def unvN (R : Nat → Bool) : Nat → Nat
  | 0 => 0
  | n + 1 => unvN R n + if R n = true then 0 else 1
def unv (R : Nat → Bool) : Nat := unvN R 8
theorem unvN_le {R R' : Nat → Bool} (h : ∀ j, R j = true → R' j = true) : ∀ n, unvN R' n ≤ unvN R n
  | 0 => Nat.le_refl _
  | n + 1 => by
    have ih := unvN_le h n
    show unvN R' n + _ ≤ unvN R n + _
    by_cases h1 : R n = true
    · rw [if_pos h1, if_pos (h n h1)]; omega
    · rw [if_neg h1]
      split <;> omega
theorem unvN_lt {R R' : Nat → Bool} (h : ∀ j, R j = true → R' j = true) {t : Nat} (h1 : R t = false) (h2 : R' t = true) : ∀ n, t < n → unvN R' n < unvN R n
  | 0, ht => absurd ht (by omega)
  | n + 1, ht => by
    show unvN R' n + _ < unvN R n + _
    by_cases e : t = n
    · subst e
      have := unvN_le h t
      rw [if_pos h2, if_neg (by rw [h1]; decide)]
      omega
    · have ih := unvN_lt h h1 h2 n (by omega)
      by_cases h3 : R n = true
      · rw [if_pos h3, if_pos (h n h3)]; omega
      · rw [if_neg h3]
        split <;> omega
theorem unvN_0 {R : Nat → Bool} : ∀ n, unvN R n = 0 → ∀ j, j < n → R j = true
  | 0, _, j, hj => absurd hj (by omega)
  | n + 1, h, j, hj => by
    have h' : unvN R n + (if R n = true then 0 else 1) = 0 := h
    by_cases h3 : R n = true
    · by_cases e : j = n
      · rw [e]; exact h3
      · exact unvN_0 n (by omega) j (by omega)
    · rw [if_neg h3] at h'
      omega
theorem unvN_b {R : Nat → Bool} : ∀ n, unvN R n ≤ n
  | 0 => Nat.le_refl _
  | n + 1 => by
    have := unvN_b (R := R) n
    show unvN R n + _ ≤ _
    split <;> omega
theorem updB {R : Nat → Bool} {t : Nat} : upd (fun j => bI (R j)) t (nI 1) = fun j => bI (va_up R t true j) := by
  funext j
  unfold upd va_up
  split <;> rfl
/-- behind a walk from t, which was not reached yet -/
def WP (v : Nat → Nat) (s : Nat) (c : Int32) (R : Nat → Bool) (t : Nat) (R' : Nat → Bool) : Prop :=
  R' t = true ∧ (∀ j, R j = true → R' j = true) ∧ (∀ j, R' j = true → R j = true ∨ Conn v s c t j) ∧ ∀ j, R' j = true → R j = false → ∀ y, adj v s c j y → R' y = true
/-- within it, k pipes of t's looked at -/
def WI (v : Nat → Nat) (s : Nat) (c : Int32) (R : Nat → Bool) (t : Nat) (S : Nat → Bool) (k : Nat) : Prop :=
  S t = true ∧ (∀ j, R j = true → S j = true) ∧ (∀ j, S j = true → R j = true ∨ Conn v s c t j) ∧ (∀ j, S j = true → R j = false → j ≠ t → ∀ y, adj v s c j y → S y = true) ∧
  ∀ p, p < k → use v s c p = true → tch (pA v p) (pB v p) t = true → S (oth (pA v p) (pB v p) t) = true
theorem WI.start {v : Nat → Nat} {s : Nat} {c : Int32} {R : Nat → Bool} {t : Nat} : WI v s c R t (va_up R t true) 0 := by
  refine ⟨va_up_self _ _ _, fun j hj => ?_, fun j hj => ?_, fun j hj h0 hne => ?_, fun p hp => absurd hp (by omega)⟩
  · unfold va_up; split
    · rfl
    · exact hj
  · unfold va_up at hj
    split at hj
    · rename_i e; rw [e]; exact Or.inr Conn.refl
    · exact Or.inl hj
  · rw [va_up_ne _ _ hne, h0] at hj
    cases hj
theorem WI.skip {v : Nat → Nat} {s : Nat} {c : Int32} {R : Nat → Bool} {t : Nat} {S : Nat → Bool} {k : Nat} (h : WI v s c R t S k) (hk : use v s c k = false ∨ tch (pA v k) (pB v k) t = false ∨ S (oth (pA v k) (pB v k) t) = true) : WI v s c R t S (k + 1) := by
  obtain ⟨h1, h2, h3, h4, h5⟩ := h
  refine ⟨h1, h2, h3, h4, fun p hp hu ht => ?_⟩
  by_cases e : p = k
  · subst e
    rcases hk with h | h | h
    · rw [h] at hu; cases hu
    · rw [h] at ht; cases ht
    · exact h
  · exact h5 p (by omega) hu ht
theorem tch_oth {v : Nat → Nat} {k t : Nat} (h : tch (pA v k) (pB v k) t = true) (hne : pA v k ≠ pB v k) : (pA v k = t ∧ pB v k = oth (pA v k) (pB v k) t) ∨ (pB v k = t ∧ pA v k = oth (pA v k) (pB v k) t) := by
  unfold tch at h
  have h := of_decide_eq_true h
  unfold oth
  by_cases e : pA v k = t
  · rw [if_pos e]; exact Or.inl ⟨e, rfl⟩
  · rw [if_neg e]; exact Or.inr ⟨h.resolve_left e, rfl⟩
theorem WI.step {v : Nat → Nat} (hI : Inv v) {s : Nat} {c : Int32} {R : Nat → Bool} {t : Nat} {S S' : Nat → Bool} {k : Nat} (h : WI v s c R t S k) (hk : k < v 1) (hu : use v s c k = true) (ht : tch (pA v k) (pB v k) t = true) (hP : WP v s c S (oth (pA v k) (pB v k) t) S') : WI v s c R t S' (k + 1) := by
  obtain ⟨h1, h2, h3, h4, h5⟩ := h
  obtain ⟨p1, p2, p3, p4⟩ := hP
  have ha : adj v s c t (oth (pA v k) (pB v k) t) := ⟨k, hk, hu, tch_oth ht (hI.pp hk).2.2.1⟩
  refine ⟨p2 t h1, fun j hj => p2 j (h2 j hj), fun j hj => ?_, fun j hj h0 hne y hy => ?_, fun p hp hu9 ht9 => ?_⟩
  · rcases p3 j hj with h | h
    · exact h3 j h
    · exact Or.inr ((Conn.adj ha).trans h)
  · cases hS : S j with
    | true => exact p2 y (h4 j hS h0 hne y hy)
    | false => exact p4 j hj hS y hy
  · by_cases e : p = k
    · subst e; exact p1
    · exact p2 _ (h5 p (by omega) hu9 ht9)
theorem WI.done {v : Nat → Nat} (hI : Inv v) {s : Nat} {c : Int32} {R : Nat → Bool} {t : Nat} {S : Nat → Bool} (h : WI v s c R t S (v 1)) : WP v s c R t S := by
  obtain ⟨h1, h2, h3, h4, h5⟩ := h
  refine ⟨h1, h2, h3, fun j hj h0 y hy => ?_⟩
  by_cases e : j = t
  · subst e
    obtain ⟨p, hp, hu, hxy⟩ := hy
    have hne := (hI.pp hp).2.2.1
    rcases hxy with ⟨e1, e2⟩ | ⟨e1, e2⟩
    · have := h5 p hp hu (decide_eq_true (Or.inl e1))
      rw [oth, if_pos e1, e2] at this
      exact this
    · have := h5 p hp hu (decide_eq_true (Or.inr e1))
      rw [oth, if_neg (fun e => hne (e.trans e1.symm)), e2] at this
      exact this
  · exact h4 j hj h0 e y hy
