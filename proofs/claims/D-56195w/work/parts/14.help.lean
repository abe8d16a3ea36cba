/-! ===== small helps ===== -/
theorem inc_nI (a k : Nat) : nI a + Int32.ofInt (k : Int) = nI (a + k) := by
  have h : Int32.ofInt (k : Int) = nI k := rfl
  rw [h]
  exact nI_add a k
theorem nar_bI (b : Bool) : narrow .boolean (.int (bI b)) = .int (bI b) := by cases b <;> decide
theorem fit_bI (b : Bool) : fits .boolean (.int (bI b)) = true := by cases b <;> decide
theorem sto_ne {σ : Sto} {a b : Nat} {e1 e2 : va_E} (h1 : σ a = some e1) (h2 : σ b = some e2) (h : e1 ≠ e2) : b ≠ a := by
  intro q
  subst q
  exact h (Option.some.inj (h1.symm.trans h2))
theorem sto_ne0 {σ : Sto} {q b : Nat} {e : va_E} (h1 : σ q = none) (h2 : σ b = some e) : b ≠ q := by
  intro h
  subst h
  rw [h1] at h2
  cases h2
