/-! ===== the twin's state ===== -/
set_option maxRecDepth 100000
/-- the twin's object: A the arrays' addresses (now, tried, kept, saved, reached, output, text, told), iv the ints by the field's number; wd the word -/
abbrev twE (A : Nat → Nat) (iv : Nat → Int32) (wd : Nat) : va_E := .inr (7, [.ref (A 0), .ref (A 1), .ref (A 2), .int (iv 3), .ref (A 3), .int (iv 5), .ref (A 4), .ref (A 5), .int (iv 8), .ref (A 6), .int (iv 10), .int (iv 11), .ref wd, .ref (A 7), .int (iv 14), .int (iv 15), .int (iv 16), .int (iv 17)])
/-- the twin at m: ar what its arrays hold (by the same numbers), rb what is reached -/
def IsTw (g : Gh) (σ : Sto) (m : Nat) (A : Nat → Nat) (iv : Nat → Int32) (wd : Nat) (ar : Nat → Nat → Nat) (rb : Nat → Bool) : Prop :=
  σ m = some (twE A iv wd) ∧ gB g ≤ m ∧
  σ (A 0) = some (eI g 0 114 (fun x9 => nI (ar 0 x9))) ∧ σ (A 1) = some (eI g 0 114 (fun x9 => nI (ar 1 x9))) ∧ σ (A 2) = some (eI g 0 912 (fun x9 => nI (ar 2 x9))) ∧ σ (A 3) = some (eI g 0 114 (fun x9 => nI (ar 3 x9))) ∧ σ (A 4) = some (eI g 2 2048 (fun x9 => bI (rb x9))) ∧ σ (A 5) = some (eI g 3 60 (fun x9 => nI (ar 5 x9))) ∧ σ (A 6) = some (eI g 3 60 (fun x9 => nI (ar 6 x9))) ∧ σ (A 7) = some (eI g 0 3 (fun x9 => nI (ar 7 x9))) ∧
  (∀ k, k < 8 → gB g ≤ A k) ∧ ∀ i j, i < 8 → j < 8 → A i = A j → i = j
/-- but for the twin and what is new nothing has changed -/
def Fm (σ σ' : Sto) (m : Nat) (A : Nat → Nat) : Prop := ∀ a, σ a ≠ none → a ≠ m → (∀ k, k < 8 → a ≠ A k) → σ' a = σ a
theorem Fm.refl {σ : Sto} {m : Nat} {A : Nat → Nat} : Fm σ σ m A := fun _ _ _ _ => rfl
theorem Fm.trans {σ1 σ2 σ3 : Sto} {m : Nat} {A : Nat → Nat} (h1 : Fm σ1 σ2 m A) (h2 : Fm σ2 σ3 m A) : Fm σ1 σ3 m A := fun a h e1 e2 => (h2 a (by rw [h1 a h e1 e2]; exact h) e1 e2).trans (h1 a h e1 e2)
theorem Fm.setM {σ σ1 : Sto} {m : Nat} {A : Nat → Nat} {e : va_E} (h1 : Fm σ σ1 m A) : Fm σ (sset σ1 m e) m A := fun a h e1 e2 => by
  rw [sset_ne e1]; exact h1 a h e1 e2
theorem Fm.setA {σ σ1 : Sto} {m : Nat} {A : Nat → Nat} {e : va_E} (h1 : Fm σ σ1 m A) (k : Nat) (hk : k < 8) : Fm σ (sset σ1 (A k) e) m A := fun a h e1 e2 => by
  rw [sset_ne (e2 k hk)]; exact h1 a h e1 e2
theorem Fm.new {σ σ1 : Sto} {m : Nat} {A : Nat → Nat} {q : Nat} {e : va_E} (h1 : Fm σ σ1 m A) (hq : σ1 q = none) : Fm σ (sset σ1 q e) m A := fun a h e1 e2 => by
  have h3 := h1 a h e1 e2
  rw [sset_ne (fun r => h (by rw [← h3, r]; exact hq))]; exact h3
theorem Fm.ext {σ σ1 σ2 : Sto} {m : Nat} {A : Nat → Nat} (h1 : Fm σ σ1 m A) (h2 : Ext σ1 σ2) : Fm σ σ2 m A := fun a h e1 e2 => by
  have h3 := h1 a h e1 e2
  rw [h2 a (by rw [h3]; exact h), h3]
/-- what was made on the way may change -/
theorem Fm.own {σ σ1 : Sto} {m : Nat} {A : Nat → Nat} {q : Nat} {e : va_E} (h1 : Fm σ σ1 m A) (hq : σ q = none) : Fm σ (sset σ1 q e) m A := fun a h e1 e2 => by
  rw [sset_ne (fun r => h (by rw [r]; exact hq))]; exact h1 a h e1 e2
theorem Fm.at {σ σ1 : Sto} {m : Nat} {A : Nat → Nat} {q : Nat} {e : va_E} (h1 : Fm σ σ1 m A) (hq : σ q = some e) (hm : q ≠ m) (hA : ∀ k, k < 8 → q ≠ A k) : σ1 q = some e := by
  rw [h1 q (by rw [hq]; exact nofun) hm hA, hq]
theorem IsTw.fresh {g : Gh} {σ : Sto} {m : Nat} {A : Nat → Nat} {iv : Nat → Int32} {wd : Nat} {ar : Nat → Nat → Nat} {rb : Nat → Bool} (h : IsTw g σ m A iv wd ar rb) {q : Nat} (hq : σ q = none) : q ≠ m ∧ ∀ k, k < 8 → q ≠ A k := by
  obtain ⟨h0, b0, a0, a1, a2, a3, a4, a5, a6, a7, hb, hi⟩ := h
  refine ⟨(sto_ne0 hq h0).symm, fun k hk => ?_⟩
  rcases (show k = 0 ∨ k = 1 ∨ k = 2 ∨ k = 3 ∨ k = 4 ∨ k = 5 ∨ k = 6 ∨ k = 7 by omega) with rfl | rfl | rfl | rfl | rfl | rfl | rfl | rfl
  · exact (sto_ne0 hq a0).symm
  · exact (sto_ne0 hq a1).symm
  · exact (sto_ne0 hq a2).symm
  · exact (sto_ne0 hq a3).symm
  · exact (sto_ne0 hq a4).symm
  · exact (sto_ne0 hq a5).symm
  · exact (sto_ne0 hq a6).symm
  · exact (sto_ne0 hq a7).symm
theorem Fm.none {g : Gh} {σ σ1 : Sto} {m : Nat} {A : Nat → Nat} {iv : Nat → Int32} {wd : Nat} {ar : Nat → Nat → Nat} {rb : Nat → Bool} (h : Fm σ σ1 m A) (h1 : IsTw g σ1 m A iv wd ar rb) {q : Nat} (hq : σ1 q = none) : σ q = none := by
  cases e : σ q with
  | none => rfl
  | some x =>
    obtain ⟨n1, n2⟩ := h1.fresh hq
    rw [h.at e n1 n2] at hq
    cases hq
/-- what the twin's frame leaves: an object that isn't the twin, an array of references, of bytes .. -/
theorem IsTw.off {g : Gh} {σ : Sto} {m : Nat} {A : Nat → Nat} {iv : Nat → Int32} {wd : Nat} {ar : Nat → Nat → Nat} {rb : Nat → Bool} (h : IsTw g σ m A iv wd ar rb) {a ci : Nat} {fs : List Value} (h0 : σ a = some (.inr (ci, fs))) (hc : ci ≠ 7) : a ≠ m ∧ ∀ k, k < 8 → a ≠ A k := by
  obtain ⟨t0, b0, a0, a1, a2, a3, a4, a5, a6, a7, hb, hi⟩ := h
  refine ⟨sto_ne t0 h0 (by intro q; cases q; exact hc rfl), fun k hk => ?_⟩
  rcases (show k = 0 ∨ k = 1 ∨ k = 2 ∨ k = 3 ∨ k = 4 ∨ k = 5 ∨ k = 6 ∨ k = 7 by omega) with rfl | rfl | rfl | rfl | rfl | rfl | rfl | rfl
  · exact sto_ne a0 h0 (by simp)
  · exact sto_ne a1 h0 (by simp)
  · exact sto_ne a2 h0 (by simp)
  · exact sto_ne a3 h0 (by simp)
  · exact sto_ne a4 h0 (by simp)
  · exact sto_ne a5 h0 (by simp)
  · exact sto_ne a6 h0 (by simp)
  · exact sto_ne a7 h0 (by simp)
theorem arrV_congr {c : ClassId} {n : Nat} {f f' : Nat → Value} (h : ∀ x, x < n → f x = f' x) : arrV c n f = arrV c n f' := by
  have e : (fun (j : Fin n) => f j.val) = (fun j => f' j.val) := funext fun j => h j.val j.isLt
  unfold arrV
  rw [e]
/-- the entries of an array beyond its length don't matter -/
theorem Hl.norm {g : Gh} {σ : Sto} {H : Heap} {locs : List Loc} {a n : Nat} {c : ClassId} {f f' : Nat → Int32} (h : Hl g σ H locs) (h0 : σ a = some (.inl (c, n, .inl f))) (hb : gB g ≤ a) (hf : ∀ x, x < n → f x = f' x) : Hl g (sset σ a (.inl (c, n, .inl f'))) H locs := by
  have e : vp_cell c (n, .inl f) = vp_cell c (n, .inl f') := by
    rw [vp_cell_i, vp_cell_i]
    exact arrV_congr (fun x hx => by rw [hf x hx])
  refine ⟨⟨fun b x hx => ?_, h.1.2.1, h.1.2.2.1, fun q hq => ?_⟩, h.2⟩
  · by_cases hba : b = a
    · subst hba
      rw [sset_eq] at hx
      cases hx
      obtain ⟨cell, q1, q2, q3, q4, q5, q6, q7⟩ := h.1.1 b _ h0
      exact ⟨cell, q1, q2, q3, fun hb => ⟨(q4 hb).1, fun h => h.elim⟩, q5, by rw [← e]; exact q6, fun hb => by rw [← e]; exact q7 hb⟩
    · rw [sset_ne hba] at hx
      exact h.1.1 b x hx
  · rw [sset_ne (by omega)]
    exact h.1.2.2.2 q hq
theorem IsTw.set0 {g : Gh} {σ : Sto} {m : Nat} {A : Nat → Nat} {iv : Nat → Int32} {wd : Nat} {ar : Nat → Nat → Nat} {rb : Nat → Bool} (h : IsTw g σ m A iv wd ar rb) (f : Nat → Nat) : IsTw g (sset σ (A 0) (eI g 0 114 (fun x9 => nI (f x9)))) m A iv wd (va_up ar 0 f) rb := by
  obtain ⟨h0, b0, a0, a1, a2, a3, a4, a5, a6, a7, hb, hi⟩ := h
  have n : ∀ {j : Nat} {e : va_E}, j < 8 → j ≠ 0 → σ (A j) = some e → sset σ (A 0) (eI g 0 114 (fun x9 => nI (f x9))) (A j) = some e := fun {j e} h1 h2 h3 => by
    rw [sset_ne (fun q => h2 (hi j 0 h1 (by decide) q))]; exact h3
  exact ⟨by rw [sset_ne (sto_ne a0 h0 (by simp))]; exact h0, b0, by rw [sset_eq, va_up_self], by rw [va_up_ne _ _ (by decide)]; exact n (by decide) (by decide) a1, by rw [va_up_ne _ _ (by decide)]; exact n (by decide) (by decide) a2, by rw [va_up_ne _ _ (by decide)]; exact n (by decide) (by decide) a3, n (by decide) (by decide) a4, by rw [va_up_ne _ _ (by decide)]; exact n (by decide) (by decide) a5, by rw [va_up_ne _ _ (by decide)]; exact n (by decide) (by decide) a6, by rw [va_up_ne _ _ (by decide)]; exact n (by decide) (by decide) a7, hb, hi⟩
theorem IsTw.norm0 {g : Gh} {σ : Sto} {m : Nat} {A : Nat → Nat} {iv : Nat → Int32} {wd : Nat} {ar : Nat → Nat → Nat} {rb : Nat → Bool} (h : IsTw g σ m A iv wd ar rb) {H : Heap} {locs : List Loc} (hW : Hl g σ H locs) (f : Nat → Nat) (hf : ∀ j, j < 114 → ar 0 j = f j) : ∃ σ', Hl g σ' H locs ∧ IsTw g σ' m A iv wd (va_up ar 0 f) rb ∧ Fm σ σ' m A :=
  ⟨_, hW.norm h.2.2.1 (h.2.2.2.2.2.2.2.2.2.2.1 0 (by decide)) (fun j hj => by rw [hf j hj]), h.set0 f, Fm.refl.setA 0 (by decide)⟩
theorem IsTw.set1 {g : Gh} {σ : Sto} {m : Nat} {A : Nat → Nat} {iv : Nat → Int32} {wd : Nat} {ar : Nat → Nat → Nat} {rb : Nat → Bool} (h : IsTw g σ m A iv wd ar rb) (f : Nat → Nat) : IsTw g (sset σ (A 1) (eI g 0 114 (fun x9 => nI (f x9)))) m A iv wd (va_up ar 1 f) rb := by
  obtain ⟨h0, b0, a0, a1, a2, a3, a4, a5, a6, a7, hb, hi⟩ := h
  have n : ∀ {j : Nat} {e : va_E}, j < 8 → j ≠ 1 → σ (A j) = some e → sset σ (A 1) (eI g 0 114 (fun x9 => nI (f x9))) (A j) = some e := fun {j e} h1 h2 h3 => by
    rw [sset_ne (fun q => h2 (hi j 1 h1 (by decide) q))]; exact h3
  exact ⟨by rw [sset_ne (sto_ne a1 h0 (by simp))]; exact h0, b0, by rw [va_up_ne _ _ (by decide)]; exact n (by decide) (by decide) a0, by rw [sset_eq, va_up_self], by rw [va_up_ne _ _ (by decide)]; exact n (by decide) (by decide) a2, by rw [va_up_ne _ _ (by decide)]; exact n (by decide) (by decide) a3, n (by decide) (by decide) a4, by rw [va_up_ne _ _ (by decide)]; exact n (by decide) (by decide) a5, by rw [va_up_ne _ _ (by decide)]; exact n (by decide) (by decide) a6, by rw [va_up_ne _ _ (by decide)]; exact n (by decide) (by decide) a7, hb, hi⟩
theorem IsTw.norm1 {g : Gh} {σ : Sto} {m : Nat} {A : Nat → Nat} {iv : Nat → Int32} {wd : Nat} {ar : Nat → Nat → Nat} {rb : Nat → Bool} (h : IsTw g σ m A iv wd ar rb) {H : Heap} {locs : List Loc} (hW : Hl g σ H locs) (f : Nat → Nat) (hf : ∀ j, j < 114 → ar 1 j = f j) : ∃ σ', Hl g σ' H locs ∧ IsTw g σ' m A iv wd (va_up ar 1 f) rb ∧ Fm σ σ' m A :=
  ⟨_, hW.norm h.2.2.2.1 (h.2.2.2.2.2.2.2.2.2.2.1 1 (by decide)) (fun j hj => by rw [hf j hj]), h.set1 f, Fm.refl.setA 1 (by decide)⟩
theorem IsTw.set2 {g : Gh} {σ : Sto} {m : Nat} {A : Nat → Nat} {iv : Nat → Int32} {wd : Nat} {ar : Nat → Nat → Nat} {rb : Nat → Bool} (h : IsTw g σ m A iv wd ar rb) (f : Nat → Nat) : IsTw g (sset σ (A 2) (eI g 0 912 (fun x9 => nI (f x9)))) m A iv wd (va_up ar 2 f) rb := by
  obtain ⟨h0, b0, a0, a1, a2, a3, a4, a5, a6, a7, hb, hi⟩ := h
  have n : ∀ {j : Nat} {e : va_E}, j < 8 → j ≠ 2 → σ (A j) = some e → sset σ (A 2) (eI g 0 912 (fun x9 => nI (f x9))) (A j) = some e := fun {j e} h1 h2 h3 => by
    rw [sset_ne (fun q => h2 (hi j 2 h1 (by decide) q))]; exact h3
  exact ⟨by rw [sset_ne (sto_ne a2 h0 (by simp))]; exact h0, b0, by rw [va_up_ne _ _ (by decide)]; exact n (by decide) (by decide) a0, by rw [va_up_ne _ _ (by decide)]; exact n (by decide) (by decide) a1, by rw [sset_eq, va_up_self], by rw [va_up_ne _ _ (by decide)]; exact n (by decide) (by decide) a3, n (by decide) (by decide) a4, by rw [va_up_ne _ _ (by decide)]; exact n (by decide) (by decide) a5, by rw [va_up_ne _ _ (by decide)]; exact n (by decide) (by decide) a6, by rw [va_up_ne _ _ (by decide)]; exact n (by decide) (by decide) a7, hb, hi⟩
theorem IsTw.norm2 {g : Gh} {σ : Sto} {m : Nat} {A : Nat → Nat} {iv : Nat → Int32} {wd : Nat} {ar : Nat → Nat → Nat} {rb : Nat → Bool} (h : IsTw g σ m A iv wd ar rb) {H : Heap} {locs : List Loc} (hW : Hl g σ H locs) (f : Nat → Nat) (hf : ∀ j, j < 912 → ar 2 j = f j) : ∃ σ', Hl g σ' H locs ∧ IsTw g σ' m A iv wd (va_up ar 2 f) rb ∧ Fm σ σ' m A :=
  ⟨_, hW.norm h.2.2.2.2.1 (h.2.2.2.2.2.2.2.2.2.2.1 2 (by decide)) (fun j hj => by rw [hf j hj]), h.set2 f, Fm.refl.setA 2 (by decide)⟩
theorem IsTw.set3 {g : Gh} {σ : Sto} {m : Nat} {A : Nat → Nat} {iv : Nat → Int32} {wd : Nat} {ar : Nat → Nat → Nat} {rb : Nat → Bool} (h : IsTw g σ m A iv wd ar rb) (f : Nat → Nat) : IsTw g (sset σ (A 3) (eI g 0 114 (fun x9 => nI (f x9)))) m A iv wd (va_up ar 3 f) rb := by
  obtain ⟨h0, b0, a0, a1, a2, a3, a4, a5, a6, a7, hb, hi⟩ := h
  have n : ∀ {j : Nat} {e : va_E}, j < 8 → j ≠ 3 → σ (A j) = some e → sset σ (A 3) (eI g 0 114 (fun x9 => nI (f x9))) (A j) = some e := fun {j e} h1 h2 h3 => by
    rw [sset_ne (fun q => h2 (hi j 3 h1 (by decide) q))]; exact h3
  exact ⟨by rw [sset_ne (sto_ne a3 h0 (by simp))]; exact h0, b0, by rw [va_up_ne _ _ (by decide)]; exact n (by decide) (by decide) a0, by rw [va_up_ne _ _ (by decide)]; exact n (by decide) (by decide) a1, by rw [va_up_ne _ _ (by decide)]; exact n (by decide) (by decide) a2, by rw [sset_eq, va_up_self], n (by decide) (by decide) a4, by rw [va_up_ne _ _ (by decide)]; exact n (by decide) (by decide) a5, by rw [va_up_ne _ _ (by decide)]; exact n (by decide) (by decide) a6, by rw [va_up_ne _ _ (by decide)]; exact n (by decide) (by decide) a7, hb, hi⟩
theorem IsTw.norm3 {g : Gh} {σ : Sto} {m : Nat} {A : Nat → Nat} {iv : Nat → Int32} {wd : Nat} {ar : Nat → Nat → Nat} {rb : Nat → Bool} (h : IsTw g σ m A iv wd ar rb) {H : Heap} {locs : List Loc} (hW : Hl g σ H locs) (f : Nat → Nat) (hf : ∀ j, j < 114 → ar 3 j = f j) : ∃ σ', Hl g σ' H locs ∧ IsTw g σ' m A iv wd (va_up ar 3 f) rb ∧ Fm σ σ' m A :=
  ⟨_, hW.norm h.2.2.2.2.2.1 (h.2.2.2.2.2.2.2.2.2.2.1 3 (by decide)) (fun j hj => by rw [hf j hj]), h.set3 f, Fm.refl.setA 3 (by decide)⟩
theorem IsTw.set4 {g : Gh} {σ : Sto} {m : Nat} {A : Nat → Nat} {iv : Nat → Int32} {wd : Nat} {ar : Nat → Nat → Nat} {rb : Nat → Bool} (h : IsTw g σ m A iv wd ar rb) (f : Nat → Bool) : IsTw g (sset σ (A 4) (eI g 2 2048 (fun x9 => bI (f x9)))) m A iv wd ar f := by
  obtain ⟨h0, b0, a0, a1, a2, a3, a4, a5, a6, a7, hb, hi⟩ := h
  have n : ∀ {j : Nat} {e : va_E}, j < 8 → j ≠ 4 → σ (A j) = some e → sset σ (A 4) (eI g 2 2048 (fun x9 => bI (f x9))) (A j) = some e := fun {j e} h1 h2 h3 => by
    rw [sset_ne (fun q => h2 (hi j 4 h1 (by decide) q))]; exact h3
  exact ⟨by rw [sset_ne (sto_ne a4 h0 (by simp))]; exact h0, b0, n (by decide) (by decide) a0, n (by decide) (by decide) a1, n (by decide) (by decide) a2, n (by decide) (by decide) a3, sset_eq, n (by decide) (by decide) a5, n (by decide) (by decide) a6, n (by decide) (by decide) a7, hb, hi⟩
theorem IsTw.norm4 {g : Gh} {σ : Sto} {m : Nat} {A : Nat → Nat} {iv : Nat → Int32} {wd : Nat} {ar : Nat → Nat → Nat} {rb : Nat → Bool} (h : IsTw g σ m A iv wd ar rb) {H : Heap} {locs : List Loc} (hW : Hl g σ H locs) (f : Nat → Bool) (hf : ∀ j, j < 2048 → rb j = f j) : ∃ σ', Hl g σ' H locs ∧ IsTw g σ' m A iv wd ar f ∧ Fm σ σ' m A :=
  ⟨_, hW.norm h.2.2.2.2.2.2.1 (h.2.2.2.2.2.2.2.2.2.2.1 4 (by decide)) (fun j hj => by rw [hf j hj]), h.set4 f, Fm.refl.setA 4 (by decide)⟩
theorem IsTw.set5 {g : Gh} {σ : Sto} {m : Nat} {A : Nat → Nat} {iv : Nat → Int32} {wd : Nat} {ar : Nat → Nat → Nat} {rb : Nat → Bool} (h : IsTw g σ m A iv wd ar rb) (f : Nat → Nat) : IsTw g (sset σ (A 5) (eI g 3 60 (fun x9 => nI (f x9)))) m A iv wd (va_up ar 5 f) rb := by
  obtain ⟨h0, b0, a0, a1, a2, a3, a4, a5, a6, a7, hb, hi⟩ := h
  have n : ∀ {j : Nat} {e : va_E}, j < 8 → j ≠ 5 → σ (A j) = some e → sset σ (A 5) (eI g 3 60 (fun x9 => nI (f x9))) (A j) = some e := fun {j e} h1 h2 h3 => by
    rw [sset_ne (fun q => h2 (hi j 5 h1 (by decide) q))]; exact h3
  exact ⟨by rw [sset_ne (sto_ne a5 h0 (by simp))]; exact h0, b0, by rw [va_up_ne _ _ (by decide)]; exact n (by decide) (by decide) a0, by rw [va_up_ne _ _ (by decide)]; exact n (by decide) (by decide) a1, by rw [va_up_ne _ _ (by decide)]; exact n (by decide) (by decide) a2, by rw [va_up_ne _ _ (by decide)]; exact n (by decide) (by decide) a3, n (by decide) (by decide) a4, by rw [sset_eq, va_up_self], by rw [va_up_ne _ _ (by decide)]; exact n (by decide) (by decide) a6, by rw [va_up_ne _ _ (by decide)]; exact n (by decide) (by decide) a7, hb, hi⟩
theorem IsTw.norm5 {g : Gh} {σ : Sto} {m : Nat} {A : Nat → Nat} {iv : Nat → Int32} {wd : Nat} {ar : Nat → Nat → Nat} {rb : Nat → Bool} (h : IsTw g σ m A iv wd ar rb) {H : Heap} {locs : List Loc} (hW : Hl g σ H locs) (f : Nat → Nat) (hf : ∀ j, j < 60 → ar 5 j = f j) : ∃ σ', Hl g σ' H locs ∧ IsTw g σ' m A iv wd (va_up ar 5 f) rb ∧ Fm σ σ' m A :=
  ⟨_, hW.norm h.2.2.2.2.2.2.2.1 (h.2.2.2.2.2.2.2.2.2.2.1 5 (by decide)) (fun j hj => by rw [hf j hj]), h.set5 f, Fm.refl.setA 5 (by decide)⟩
theorem IsTw.set6 {g : Gh} {σ : Sto} {m : Nat} {A : Nat → Nat} {iv : Nat → Int32} {wd : Nat} {ar : Nat → Nat → Nat} {rb : Nat → Bool} (h : IsTw g σ m A iv wd ar rb) (f : Nat → Nat) : IsTw g (sset σ (A 6) (eI g 3 60 (fun x9 => nI (f x9)))) m A iv wd (va_up ar 6 f) rb := by
  obtain ⟨h0, b0, a0, a1, a2, a3, a4, a5, a6, a7, hb, hi⟩ := h
  have n : ∀ {j : Nat} {e : va_E}, j < 8 → j ≠ 6 → σ (A j) = some e → sset σ (A 6) (eI g 3 60 (fun x9 => nI (f x9))) (A j) = some e := fun {j e} h1 h2 h3 => by
    rw [sset_ne (fun q => h2 (hi j 6 h1 (by decide) q))]; exact h3
  exact ⟨by rw [sset_ne (sto_ne a6 h0 (by simp))]; exact h0, b0, by rw [va_up_ne _ _ (by decide)]; exact n (by decide) (by decide) a0, by rw [va_up_ne _ _ (by decide)]; exact n (by decide) (by decide) a1, by rw [va_up_ne _ _ (by decide)]; exact n (by decide) (by decide) a2, by rw [va_up_ne _ _ (by decide)]; exact n (by decide) (by decide) a3, n (by decide) (by decide) a4, by rw [va_up_ne _ _ (by decide)]; exact n (by decide) (by decide) a5, by rw [sset_eq, va_up_self], by rw [va_up_ne _ _ (by decide)]; exact n (by decide) (by decide) a7, hb, hi⟩
theorem IsTw.norm6 {g : Gh} {σ : Sto} {m : Nat} {A : Nat → Nat} {iv : Nat → Int32} {wd : Nat} {ar : Nat → Nat → Nat} {rb : Nat → Bool} (h : IsTw g σ m A iv wd ar rb) {H : Heap} {locs : List Loc} (hW : Hl g σ H locs) (f : Nat → Nat) (hf : ∀ j, j < 60 → ar 6 j = f j) : ∃ σ', Hl g σ' H locs ∧ IsTw g σ' m A iv wd (va_up ar 6 f) rb ∧ Fm σ σ' m A :=
  ⟨_, hW.norm h.2.2.2.2.2.2.2.2.1 (h.2.2.2.2.2.2.2.2.2.2.1 6 (by decide)) (fun j hj => by rw [hf j hj]), h.set6 f, Fm.refl.setA 6 (by decide)⟩
theorem IsTw.set7 {g : Gh} {σ : Sto} {m : Nat} {A : Nat → Nat} {iv : Nat → Int32} {wd : Nat} {ar : Nat → Nat → Nat} {rb : Nat → Bool} (h : IsTw g σ m A iv wd ar rb) (f : Nat → Nat) : IsTw g (sset σ (A 7) (eI g 0 3 (fun x9 => nI (f x9)))) m A iv wd (va_up ar 7 f) rb := by
  obtain ⟨h0, b0, a0, a1, a2, a3, a4, a5, a6, a7, hb, hi⟩ := h
  have n : ∀ {j : Nat} {e : va_E}, j < 8 → j ≠ 7 → σ (A j) = some e → sset σ (A 7) (eI g 0 3 (fun x9 => nI (f x9))) (A j) = some e := fun {j e} h1 h2 h3 => by
    rw [sset_ne (fun q => h2 (hi j 7 h1 (by decide) q))]; exact h3
  exact ⟨by rw [sset_ne (sto_ne a7 h0 (by simp))]; exact h0, b0, by rw [va_up_ne _ _ (by decide)]; exact n (by decide) (by decide) a0, by rw [va_up_ne _ _ (by decide)]; exact n (by decide) (by decide) a1, by rw [va_up_ne _ _ (by decide)]; exact n (by decide) (by decide) a2, by rw [va_up_ne _ _ (by decide)]; exact n (by decide) (by decide) a3, n (by decide) (by decide) a4, by rw [va_up_ne _ _ (by decide)]; exact n (by decide) (by decide) a5, by rw [va_up_ne _ _ (by decide)]; exact n (by decide) (by decide) a6, by rw [sset_eq, va_up_self], hb, hi⟩
theorem IsTw.norm7 {g : Gh} {σ : Sto} {m : Nat} {A : Nat → Nat} {iv : Nat → Int32} {wd : Nat} {ar : Nat → Nat → Nat} {rb : Nat → Bool} (h : IsTw g σ m A iv wd ar rb) {H : Heap} {locs : List Loc} (hW : Hl g σ H locs) (f : Nat → Nat) (hf : ∀ j, j < 3 → ar 7 j = f j) : ∃ σ', Hl g σ' H locs ∧ IsTw g σ' m A iv wd (va_up ar 7 f) rb ∧ Fm σ σ' m A :=
  ⟨_, hW.norm h.2.2.2.2.2.2.2.2.2.1 (h.2.2.2.2.2.2.2.2.2.2.1 7 (by decide)) (fun j hj => by rw [hf j hj]), h.set7 f, Fm.refl.setA 7 (by decide)⟩
section NR2
variable {g : Gh} {l : Launch} {p : Program} {e : Env} {R : Room} {s : State} {m : MethodId} {args : Array Value} {below : List Frame} {meth : Method} {c : Code} {H : Heap} {locs : List Loc} {cells slots : Nat} {Q : State → Prop}
variable {cc : ByteArray} {nL : Nat} {own nm : String} {ret : Option FieldType} {tb : List ExceptionTableEntry} {pc : Nat} {ls : Array Slot} {rest st : List Value} {σ : Sto} {a : Nat}
theorem upd_bI (f : Nat → Bool) (i : Nat) (x : Bool) : upd (fun j => bI (f j)) i (bI x) = fun j => bI (va_up f i x j) := by
  funext j
  by_cases h : j = i <;> simp [upd, va_up, h]
theorem n_castN (F : Fx g l p s m args meth c cc nL own nm ret tb) (hW : Hl g σ H locs) {n i x : Nat} {f : Nat → Nat} (he : σ a = some (eN g 3 n f)) (hb0 : gB g ≤ a) (hi : i < n) (hn : n < 2 ^ 31) (hy : narrow .char (.int (nI x)) = .int (nI x)) (hdg : decode cc pc = .ok (.castore, 1)) (kk : ∀ (H1 : Heap) (locs1 : List Loc), Hl g (sset σ a (eN g 3 n (va_up f i x))) H1 locs1 → W p l e R s m args below meth c H1 locs1 cells slots Q (F0 m (pc + 1) ls rest)) : W p l e R s m args below meth c H locs cells slots Q (F0 m (pc) ls (.int (nI x) :: .int (nI i) :: .ref a :: rest)) := by
  refine n_cast F hW he hb0 hi hn hy hdg ?_
  rw [upd_nI]
  exact kk
theorem nar_c {x : Nat} (h : x < 65536) : narrow .char (.int (nI x)) = .int (nI x) := (pk_charN h).1
theorem fit_c {x : Nat} (h : x < 65536) : fits .char (.int (nI x)) = true := (pk_charN h).2
theorem n_zastN (F : Fx g l p s m args meth c cc nL own nm ret tb) (hW : Hl g σ H locs) {n i : Nat} {x : Bool} {f : Nat → Bool} (he : σ a = some (eI g 2 n (fun j => bI (f j)))) (hb0 : gB g ≤ a) (hi : i < n) (hn : n < 2 ^ 31) (hdg : decode cc pc = .ok (.bastore, 1)) (kk : ∀ (H1 : Heap) (locs1 : List Loc), Hl g (sset σ a (eI g 2 n (fun j => bI (va_up f i x j)))) H1 locs1 → W p l e R s m args below meth c H1 locs1 cells slots Q (F0 m (pc + 1) ls rest)) : W p l e R s m args below meth c H locs cells slots Q (F0 m (pc) ls (.int (bI x) :: .int (nI i) :: .ref a :: rest)) := by
  refine n_zast F hW he hb0 hi hn (nar_bI _) hdg ?_
  rw [upd_bI]
  exact kk
end NR2
/-- g with n entries of f from o on -/
def cpT (f g : Nat → Nat) (o n : Nat) : Nat → Nat := fun j => if o ≤ j ∧ j < o + n then f (j - o) else g j
theorem cpT_0 {f g : Nat → Nat} {o : Nat} : cpT f g o 0 = g := funext fun j => if_neg (by omega)
theorem cpT_s {f g : Nat → Nat} {o n : Nat} : va_up (cpT f g o n) (o + n) (f n) = cpT f g o (n + 1) := by
  funext j
  unfold cpT va_up
  by_cases h : j = o + n
  · rw [if_pos h, if_pos (by omega), show j - o = n by omega]
  · rw [if_neg h]
    dsimp only
    by_cases h2 : o ≤ j ∧ j < o + n
    · rw [if_pos h2, if_pos (by omega)]
    · rw [if_neg h2, if_neg (by omega)]
theorem cpT_s0 {f g : Nat → Nat} {n : Nat} : va_up (cpT f g 0 n) n (f n) = cpT f g 0 (n + 1) := by
  rw [← cpT_s, Nat.zero_add]
theorem cpT_e {f g : Nat → Nat} {n j : Nat} (h : j < n) : cpT f g 0 n j = f j := if_pos (by omega)
/-- the first n entries from 114 on taken to the front -/
def shT (f : Nat → Nat) (n : Nat) : Nat → Nat := fun j => if j < n then f (114 + j) else f j
theorem shT_0 {f : Nat → Nat} : shT f 0 = f := funext fun j => if_neg (by omega)
theorem shT_s {f : Nat → Nat} {n : Nat} : va_up (shT f n) n (shT f n (114 + n)) = shT f (n + 1) := by
  funext j
  unfold shT va_up
  by_cases h : j = n
  · rw [if_pos h, if_neg (by omega), if_pos (by omega), h]
  · rw [if_neg h]
    dsimp only
    by_cases h2 : j < n
    · rw [if_pos h2, if_pos (by omega)]
    · rw [if_neg h2, if_neg (by omega)]
