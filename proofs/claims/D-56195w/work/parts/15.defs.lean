/-! ===== objects, lists ===== -/
abbrev oTank (c k i : Nat) : va_E := .inr (8, [.int (nI c), .int (nI k), .int (nI i)])
abbrev oPipe (a b m s r d t : Nat) : va_E := .inr (9, [.int (nI a), .int (nI b), .int (nI m), .int (nI s), .int (nI r), .int (nI d), .int (nI t)])
/-- an ArrayList at tl of k references, its array at ea -/
def IsList (g : Gh) (σ : Sto) (tl ea k : Nat) (ad : Nat → Nat) : Prop := ∃ (mc : Int32) (n : Nat) (f : Nat → Option Nat), σ tl = some (.inr (2, [.int mc, .ref ea, .int (nI k)])) ∧ gB g ≤ tl ∧ σ ea = some (eR g n f) ∧ ((n = 0 ∧ ea = gA g 0) ∨ (10 ≤ n ∧ gB g ≤ ea)) ∧ k ≤ n ∧ n ≤ 90 ∧ ∀ i, i < k → f i = some (ad i)
theorem bI_nI (b : Bool) : bI b = nI (if b then 1 else 0) := by cases b <;> rfl
/-- the things in an array of references are objects that an Object[] takes -/
def Els (σ : Sto) (f : Nat → Option Nat) (n : Nat) : Prop := ∀ i, i < n → ∀ y : Nat, f i = some y → ∃ (ci : Nat) (vs : List Value) (r : vw_C), σ y = some (.inr (ci, vs)) ∧ vCl[ci]? = some r ∧ Cond.castable r.1 "java/lang/Object" ∈ lw_tbl
theorem Els.at0 {σ : Sto} {f : Nat → Option Nat} {n : Nat} (h : Els σ f n) : ∀ i, i < n → ∀ y : Nat, f (0 + i) = some y → ∃ (ci : Nat) (vs : List Value) (r : vw_C), σ y = some (.inr (ci, vs)) ∧ vCl[ci]? = some r ∧ Cond.castable r.1 "java/lang/Object" ∈ lw_tbl := fun i hi y hy => h i hi y (by rw [Nat.zero_add] at hy; exact hy)
theorem Els.fresh {σ : Sto} {f : Nat → Option Nat} {n q : Nat} {e : va_E} (h : Els σ f n) (hq : σ q = none) : Els (sset σ q e) f n := by
  intro i hi y hy
  obtain ⟨ci, vs, r, h1, h2, h3⟩ := h i hi y hy
  exact ⟨ci, vs, r, by rw [sset_ne (sto_ne0 hq h1)]; exact h1, h2, h3⟩
theorem Els.setA {σ : Sto} {f : Nat → Option Nat} {n q : Nat} {x : ClassId × vp_A} {e : va_E} (h : Els σ f n) (hq : σ q = some (.inl x)) : Els (sset σ q e) f n := by
  intro i hi y hy
  obtain ⟨ci, vs, r, h1, h2, h3⟩ := h i hi y hy
  exact ⟨ci, vs, r, by rw [sset_ne (sto_ne hq h1 (by simp))]; exact h1, h2, h3⟩
/-- an object changes, but stays of its class -/
theorem Els.setO {σ : Sto} {f : Nat → Option Nat} {n q ci : Nat} {vs vs' : List Value} (h : Els σ f n) (hq : σ q = some (.inr (ci, vs))) : Els (sset σ q (.inr (ci, vs'))) f n := by
  intro i hi y hy
  obtain ⟨c9, v9, r, h1, h2, h3⟩ := h i hi y hy
  by_cases hyq : y = q
  · subst hyq
    cases hq.symm.trans h1
    exact ⟨ci, vs', r, sset_eq, h2, h3⟩
  · exact ⟨c9, v9, r, by rw [sset_ne hyq]; exact h1, h2, h3⟩
theorem va_cpy0 {α : Type} {f h : Nat → α} {n i : Nat} (hi : i < n) : va_cpy f h 0 0 n i = f i := by
  simp [va_cpy, hi]
theorem IsList.add {g : Gh} {σ : Sto} {tl ea k n v : Nat} {mc : Int32} {ad : Nat → Nat} {f : Nat → Option Nat} (e0 : σ tl = some (.inr (2, [.int mc, .ref ea, .int (nI (k + 1))]))) (b0 : gB g ≤ tl) (e1 : σ ea = some (eR g n (va_up f k (some v)))) (hn : 10 ≤ n) (b1 : gB g ≤ ea) (hk : k < n) (hn2 : n ≤ 90) (hf : ∀ i, i < k → f i = some (ad i)) : IsList g σ tl ea (k + 1) (va_up ad k v) := by
  refine ⟨mc, n, _, e0, b0, e1, Or.inr ⟨hn, b1⟩, hk, hn2, fun i hi => ?_⟩
  by_cases h : i = k
  · subst h
    rw [va_up_self, va_up_self]
  · rw [show va_up f k (some v) i = f i from if_neg h, show va_up ad k v i = ad i from if_neg h]
    exact hf i (by omega)
/-- a list's elements are objects that an Object[] takes -/
def Elm (σ : Sto) (k : Nat) (ad : Nat → Nat) : Prop := ∀ i, i < k → ∃ (ci : Nat) (vs : List Value) (r : vw_C), σ (ad i) = some (.inr (ci, vs)) ∧ vCl[ci]? = some r ∧ Cond.castable r.1 "java/lang/Object" ∈ lw_tbl
theorem Elm.els {σ : Sto} {k n : Nat} {ad : Nat → Nat} {f : Nat → Option Nat} (h : Elm σ k ad) (hk : k = n) (hf : ∀ i, i < k → f i = some (ad i)) : Els σ f n := by
  intro i hi y hy
  have h1 := hf i (by omega)
  rw [h1] at hy
  cases hy
  exact h i (by omega)
theorem Elm.setO {σ : Sto} {k q ci : Nat} {ad : Nat → Nat} {vs vs' : List Value} (h : Elm σ k ad) (hq : σ q = some (.inr (ci, vs))) : Elm (sset σ q (.inr (ci, vs'))) k ad := by
  intro i hi
  obtain ⟨c9, v9, r, h1, h2, h3⟩ := h i hi
  by_cases hyq : ad i = q
  · rw [hyq] at h1 ⊢
    cases hq.symm.trans h1
    exact ⟨ci, vs', r, sset_eq, h2, h3⟩
  · exact ⟨c9, v9, r, by rw [sset_ne hyq]; exact h1, h2, h3⟩
/-- v has been added to the list -/
def AddP (g : Gh) (σ σ' : Sto) (tl ea k : Nat) (ad : Nat → Nat) (v : Nat) : Prop := ∃ ea', IsList g σ' tl ea' (k + 1) (va_up ad k v) ∧ (ea' = ea ∨ σ ea' = none) ∧ ∀ a, σ a ≠ none → a ≠ tl → a ≠ ea → σ' a = σ a
theorem AddP.pre {g : Gh} {σ σ' : Sto} {tl ea k v : Nat} {ad : Nat → Nat} {e : va_E} (h : AddP g (sset σ tl e) σ' tl ea k ad v) : AddP g σ σ' tl ea k ad v := by
  obtain ⟨ea', h1, h2, h3⟩ := h
  refine ⟨ea', h1, h2.imp id (fun h => ?_), fun a ha h4 h5 => ?_⟩
  · by_cases hq : ea' = tl
    · rw [hq, sset_eq] at h; cases h
    · rw [sset_ne hq] at h; exact h
  · rw [h3 a (by rw [sset_ne h4]; exact ha) h4 h5, sset_ne h4]
