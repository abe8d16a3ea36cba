/-! ===== the twin: small things ===== -/
set_option maxRecDepth 100000
set_option maxHeartbeats 4000000 in
theorem k_X3_in (g : Gh) (l : Launch) (σ : Sto) (a b d : Int32)  : Ct g l yX3_in cX3_in 3 (some .boolean) ({ frames := 0, cells := 0, slots := 0, locals := 0 } : Room) [.int a, .int b, .int d] σ (fun r σ' => r = some (.int (bI (btw a b d))) ∧ σ' = σ) (nox) := by
  refine Ct.body (by decide) (Nat.le_of_ble_eq_true rfl) ?_
  intro p_ e_ s_ m_ args_ below_ meth_ c_ ls H locs Q F hW hl hQ
  have hl : lv_has ls 3 [(0, .int a), (1, .int b), (2, .int d)] := hl
  refine lv_iload_n F.x F.cd dX3_in_0 rfl (lv_at hl 0 rfl) ?_
  refine lv_iload_n F.x F.cd dX3_in_1 rfl (lv_at hl 1 rfl) ?_
  refine lv_icmp_lt (x := a) (y := b) (tgt := 14) F.x F.cd dX3_in_2 (by decide) (fun c_2 => ?_) (fun c_2 => ?_)
  · refine lv_iconst (v := (nI 0)) F.x F.cd dX3_in_14 (by decide) ?_
    subst hQ
    exact s_reti (v := (nI 0)) F hW (by decide) (⟨by rw [show btw a b d = false from decide_eq_false (fun h => absurd h.1 (Int32.not_le.mpr c_2))]; rfl, rfl⟩) ⟨(Nat.le_of_ble_eq_true rfl), (Nat.le_of_ble_eq_true rfl)⟩ dX3_in_15
  · refine lv_iload_n F.x F.cd dX3_in_5 rfl (lv_at hl 0 rfl) ?_
    refine lv_iload_n F.x F.cd dX3_in_6 rfl (lv_at hl 2 rfl) ?_
    refine lv_icmp_gt (x := a) (y := d) (tgt := 14) F.x F.cd dX3_in_7 (by decide) (fun c_7 => ?_) (fun c_7 => ?_)
    · refine lv_iconst (v := (nI 0)) F.x F.cd dX3_in_14 (by decide) ?_
      subst hQ
      exact s_reti (v := (nI 0)) F hW (by decide) (⟨by rw [show btw a b d = false from decide_eq_false (fun h => absurd h.2 (Int32.not_le.mpr c_7))]; rfl, rfl⟩) ⟨(Nat.le_of_ble_eq_true rfl), (Nat.le_of_ble_eq_true rfl)⟩ dX3_in_15
    · refine lv_iconst (v := (nI 1)) F.x F.cd dX3_in_10 (by decide) ?_
      refine lv_goto (tgt := 15) F.x F.cd dX3_in_11 (by decide) ?_
      subst hQ
      exact s_reti (v := (nI 1)) F hW (by decide) (⟨by rw [show btw a b d = true from decide_eq_true ⟨Int32.not_lt.mp c_2, Int32.not_lt.mp c_7⟩]; rfl, rfl⟩) ⟨(Nat.le_of_ble_eq_true rfl), (Nat.le_of_ble_eq_true rfl)⟩ dX3_in_15
set_option maxHeartbeats 4000000 in
theorem k_X3_thrown (g : Gh) (l : Launch) (σ : Sto) (m : Nat) (A : Nat → Nat) (iv : Nat → Int32) (wd : Nat) (ar : Nat → Nat → Nat) (rb : Nat → Bool)  (hw : IsTw g σ m A iv wd ar rb)  : Ct g l yX3_thrown cX3_thrown 1 (some .int) ({ frames := 0, cells := 0, slots := 0, locals := 0 } : Room) [.ref m] σ (fun r σ' => r = some (.int (iv 17)) ∧ σ' = σ) (nox) := by
  refine Ct.body (by decide) (Nat.le_of_ble_eq_true rfl) ?_
  intro p_ e_ s_ m_ args_ below_ meth_ c_ ls H locs Q F hW hl hQ
  have hl : lv_has ls 1 [(0, .ref m)] := hl
  obtain ⟨t0, tb0, ta0, ta1, ta2, ta3, ta4, ta5, ta6, ta7, tbb, tii⟩ := id hw
  refine lv_aload_n F.x F.cd dX3_thrown_0 rfl (lv_at hl 0 rfl) ?_
  refine s_get F hW (ci := 7) (C := RX3) (T := TX3) (N := 18) (v := .int (iv 17)) (t0) rfl in_X3 17 (by decide) q2296 (fun _ h9 => h9) rfl dX3_thrown_1 ?_
  subst hQ
  exact s_reti (v := (iv 17)) F hW rfl (⟨rfl, rfl⟩) ⟨(Nat.le_of_ble_eq_true rfl), (Nat.le_of_ble_eq_true rfl)⟩ dX3_thrown_4
set_option maxHeartbeats 4000000 in
theorem k_X3_raises (g : Gh) (l : Launch) (σ : Sto) (m : Nat) (A : Nat → Nat) (iv : Nat → Int32) (wd : Nat) (ar : Nat → Nat → Nat) (rb : Nat → Bool) (x : Int32) (hw : IsTw g σ m A iv wd ar rb)  : Ct g l yX3_raises cX3_raises 2 (some .int) ({ frames := 0, cells := 0, slots := 0, locals := 0 } : Room) [.ref m, .int x] σ (fun r σ' => r = some (.int (nI 0)) ∧ IsTw g σ' m A (va_up iv 17 x) wd ar rb ∧ Fm σ σ' m A) (nox) := by
  refine Ct.body (by decide) (Nat.le_of_ble_eq_true rfl) ?_
  intro p_ e_ s_ m_ args_ below_ meth_ c_ ls H locs Q F hW hl hQ
  have hl : lv_has ls 2 [(0, .ref m), (1, .int x)] := hl
  obtain ⟨t0, tb0, ta0, ta1, ta2, ta3, ta4, ta5, ta6, ta7, tbb, tii⟩ := id hw
  refine lv_aload_n F.x F.cd dX3_raises_0 rfl (lv_at hl 0 rfl) ?_
  refine lv_iload_n F.x F.cd dX3_raises_1 rfl (lv_at hl 1 rfl) ?_
  refine s_put F hW (ci := 7) (C := RX3) (T := TX3) (N := 18) (v := .int x) (ty := .int) (t0) (tb0) rfl in_X3 tyX3_ok nmX3 17 (by decide) q2296 (fun _ h9 => h9) rfl (by decide +kernel) rfl rfl (Nat.le_of_ble_eq_true rfl) dX3_raises_2 (fun H locs hW => ?_)
  obtain ⟨σ2, hσ2⟩ : ∃ z, z = sset σ m (.inr (7, [.ref (A 0), .ref (A 1), .ref (A 2), .int (iv 3), .ref (A 3), .int (iv 5), .ref (A 4), .ref (A 5), .int (iv 8), .ref (A 6), .int (iv 10), .int (iv 11), .ref wd, .ref (A 7), .int (iv 14), .int (iv 15), .int (iv 16), .int x])) := ⟨_, rfl⟩
  have hW : Hl g σ2 H locs := by rw [hσ2]; exact hW
  have w2 : σ2 m = some (.inr (7, [.ref (A 0), .ref (A 1), .ref (A 2), .int (iv 3), .ref (A 3), .int (iv 5), .ref (A 4), .ref (A 5), .int (iv 8), .ref (A 6), .int (iv 10), .int (iv 11), .ref wd, .ref (A 7), .int (iv 14), .int (iv 15), .int (iv 16), .int x])) := by rw [hσ2]; exact sset_eq
  have f3 : σ2 (A 0) = some (eI g 0 114 (fun x9 => nI ((ar 0) x9))) := by rw [hσ2, sset_ne (sto_ne t0 ta0 (by simp))]; exact ta0
  have f4 : σ2 (A 1) = some (eI g 0 114 (fun x9 => nI ((ar 1) x9))) := by rw [hσ2, sset_ne (sto_ne t0 ta1 (by simp))]; exact ta1
  have f5 : σ2 (A 2) = some (eI g 0 912 (fun x9 => nI ((ar 2) x9))) := by rw [hσ2, sset_ne (sto_ne t0 ta2 (by simp))]; exact ta2
  have f6 : σ2 (A 3) = some (eI g 0 114 (fun x9 => nI ((ar 3) x9))) := by rw [hσ2, sset_ne (sto_ne t0 ta3 (by simp))]; exact ta3
  have f7 : σ2 (A 4) = some (eI g 2 2048 (fun x9 => bI (rb x9))) := by rw [hσ2, sset_ne (sto_ne t0 ta4 (by simp))]; exact ta4
  have f8 : σ2 (A 5) = some (eI g 3 60 (fun x9 => nI ((ar 5) x9))) := by rw [hσ2, sset_ne (sto_ne t0 ta5 (by simp))]; exact ta5
  have f9 : σ2 (A 6) = some (eI g 3 60 (fun x9 => nI ((ar 6) x9))) := by rw [hσ2, sset_ne (sto_ne t0 ta6 (by simp))]; exact ta6
  have f10 : σ2 (A 7) = some (eI g 0 3 (fun x9 => nI ((ar 7) x9))) := by rw [hσ2, sset_ne (sto_ne t0 ta7 (by simp))]; exact ta7
  refine lv_iconst (v := (nI 0)) F.x F.cd dX3_raises_5 (by decide) ?_
  have tw11 : IsTw g σ2 m A (va_up iv 17 x) wd ar rb := ⟨w2, tb0, f3, f4, f5, f6, f7, f8, f9, f10, tbb, tii⟩
  have fm11 : Fm σ σ2 m A := by rw [hσ2]; exact (Fm.refl).setM
  subst hQ
  exact s_reti (v := (nI 0)) F hW rfl (⟨rfl, tw11, fm11⟩) ⟨(Nat.le_of_ble_eq_true rfl), (Nat.le_of_ble_eq_true rfl)⟩ dX3_raises_6
set_option maxHeartbeats 4000000 in
theorem k_X3_does (g : Gh) (l : Launch) (σ : Sto) (m : Nat) (A : Nat → Nat) (iv : Nat → Int32) (wd : Nat) (ar : Nat → Nat → Nat) (rb : Nat → Bool) (x : Int32) (hw : IsTw g σ m A iv wd ar rb)  : Ct g l yX3_does cX3_does 2 (some .int) ({ frames := 0, cells := 0, slots := 0, locals := 0 } : Room) [.ref m, .int x] σ (fun r σ' => r = some (.int (nI 0)) ∧ IsTw g σ' m A (va_up iv 16 x) wd ar rb ∧ Fm σ σ' m A) (nox) := by
  refine Ct.body (by decide) (Nat.le_of_ble_eq_true rfl) ?_
  intro p_ e_ s_ m_ args_ below_ meth_ c_ ls H locs Q F hW hl hQ
  have hl : lv_has ls 2 [(0, .ref m), (1, .int x)] := hl
  obtain ⟨t0, tb0, ta0, ta1, ta2, ta3, ta4, ta5, ta6, ta7, tbb, tii⟩ := id hw
  refine lv_aload_n F.x F.cd dX3_does_0 rfl (lv_at hl 0 rfl) ?_
  refine lv_iload_n F.x F.cd dX3_does_1 rfl (lv_at hl 1 rfl) ?_
  refine s_put F hW (ci := 7) (C := RX3) (T := TX3) (N := 18) (v := .int x) (ty := .int) (t0) (tb0) rfl in_X3 tyX3_ok nmX3 16 (by decide) q2295 (fun _ h9 => h9) rfl (by decide +kernel) rfl rfl (Nat.le_of_ble_eq_true rfl) dX3_does_2 (fun H locs hW => ?_)
  obtain ⟨σ2, hσ2⟩ : ∃ z, z = sset σ m (.inr (7, [.ref (A 0), .ref (A 1), .ref (A 2), .int (iv 3), .ref (A 3), .int (iv 5), .ref (A 4), .ref (A 5), .int (iv 8), .ref (A 6), .int (iv 10), .int (iv 11), .ref wd, .ref (A 7), .int (iv 14), .int (iv 15), .int x, .int (iv 17)])) := ⟨_, rfl⟩
  have hW : Hl g σ2 H locs := by rw [hσ2]; exact hW
  have w2 : σ2 m = some (.inr (7, [.ref (A 0), .ref (A 1), .ref (A 2), .int (iv 3), .ref (A 3), .int (iv 5), .ref (A 4), .ref (A 5), .int (iv 8), .ref (A 6), .int (iv 10), .int (iv 11), .ref wd, .ref (A 7), .int (iv 14), .int (iv 15), .int x, .int (iv 17)])) := by rw [hσ2]; exact sset_eq
  have f3 : σ2 (A 0) = some (eI g 0 114 (fun x9 => nI ((ar 0) x9))) := by rw [hσ2, sset_ne (sto_ne t0 ta0 (by simp))]; exact ta0
  have f4 : σ2 (A 1) = some (eI g 0 114 (fun x9 => nI ((ar 1) x9))) := by rw [hσ2, sset_ne (sto_ne t0 ta1 (by simp))]; exact ta1
  have f5 : σ2 (A 2) = some (eI g 0 912 (fun x9 => nI ((ar 2) x9))) := by rw [hσ2, sset_ne (sto_ne t0 ta2 (by simp))]; exact ta2
  have f6 : σ2 (A 3) = some (eI g 0 114 (fun x9 => nI ((ar 3) x9))) := by rw [hσ2, sset_ne (sto_ne t0 ta3 (by simp))]; exact ta3
  have f7 : σ2 (A 4) = some (eI g 2 2048 (fun x9 => bI (rb x9))) := by rw [hσ2, sset_ne (sto_ne t0 ta4 (by simp))]; exact ta4
  have f8 : σ2 (A 5) = some (eI g 3 60 (fun x9 => nI ((ar 5) x9))) := by rw [hσ2, sset_ne (sto_ne t0 ta5 (by simp))]; exact ta5
  have f9 : σ2 (A 6) = some (eI g 3 60 (fun x9 => nI ((ar 6) x9))) := by rw [hσ2, sset_ne (sto_ne t0 ta6 (by simp))]; exact ta6
  have f10 : σ2 (A 7) = some (eI g 0 3 (fun x9 => nI ((ar 7) x9))) := by rw [hσ2, sset_ne (sto_ne t0 ta7 (by simp))]; exact ta7
  refine lv_iconst (v := (nI 0)) F.x F.cd dX3_does_5 (by decide) ?_
  have tw11 : IsTw g σ2 m A (va_up iv 16 x) wd ar rb := ⟨w2, tb0, f3, f4, f5, f6, f7, f8, f9, f10, tbb, tii⟩
  have fm11 : Fm σ σ2 m A := by rw [hσ2]; exact (Fm.refl).setM
  subst hQ
  exact s_reti (v := (nI 0)) F hW rfl (⟨rfl, tw11, fm11⟩) ⟨(Nat.le_of_ble_eq_true rfl), (Nat.le_of_ble_eq_true rfl)⟩ dX3_does_6
set_option maxHeartbeats 4000000 in
theorem k_X3_tries (g : Gh) (l : Launch) (σ : Sto) (m : Nat) (A : Nat → Nat) (iv : Nat → Int32) (wd : Nat) (ar : Nat → Nat → Nat) (rb : Nat → Bool)  (hw : IsTw g σ m A iv wd ar rb)  : Ct g l yX3_tries cX3_tries 2 none ({ frames := 0, cells := 0, slots := 0, locals := 0 } : Room) [.ref m] σ (fun r σ' => r = none ∧ IsTw g σ' m A (va_up iv 17 (nI 0)) wd (va_up ar 1 (ar 0)) rb ∧ Fm σ σ' m A) (nox) := by
  refine Ct.body (by decide) (Nat.le_of_ble_eq_true rfl) ?_
  intro p_ e_ s_ m_ args_ below_ meth_ c_ ls H locs Q F hW hl hQ
  have hl : lv_has ls 2 [(0, .ref m)] := hl
  obtain ⟨t0, tb0, ta0, ta1, ta2, ta3, ta4, ta5, ta6, ta7, tbb, tii⟩ := id hw
  refine lv_aload_n F.x F.cd dX3_tries_0 rfl (lv_at hl 0 rfl) ?_
  refine lv_iconst (v := (nI 0)) F.x F.cd dX3_tries_1 (by decide) ?_
  refine s_put F hW (ci := 7) (C := RX3) (T := TX3) (N := 18) (v := .int (nI 0)) (ty := .int) (t0) (tb0) rfl in_X3 tyX3_ok nmX3 17 (by decide) q2296 (fun _ h9 => h9) rfl (by decide +kernel) rfl rfl (Nat.le_of_ble_eq_true rfl) dX3_tries_2 (fun H locs hW => ?_)
  obtain ⟨σ2, hσ2⟩ : ∃ z, z = sset σ m (.inr (7, [.ref (A 0), .ref (A 1), .ref (A 2), .int (iv 3), .ref (A 3), .int (iv 5), .ref (A 4), .ref (A 5), .int (iv 8), .ref (A 6), .int (iv 10), .int (iv 11), .ref wd, .ref (A 7), .int (iv 14), .int (iv 15), .int (iv 16), .int (nI 0)])) := ⟨_, rfl⟩
  have hW : Hl g σ2 H locs := by rw [hσ2]; exact hW
  have w2 : σ2 m = some (.inr (7, [.ref (A 0), .ref (A 1), .ref (A 2), .int (iv 3), .ref (A 3), .int (iv 5), .ref (A 4), .ref (A 5), .int (iv 8), .ref (A 6), .int (iv 10), .int (iv 11), .ref wd, .ref (A 7), .int (iv 14), .int (iv 15), .int (iv 16), .int (nI 0)])) := by rw [hσ2]; exact sset_eq
  have f3 : σ2 (A 0) = some (eI g 0 114 (fun x9 => nI ((ar 0) x9))) := by rw [hσ2, sset_ne (sto_ne t0 ta0 (by simp))]; exact ta0
  have f4 : σ2 (A 1) = some (eI g 0 114 (fun x9 => nI ((ar 1) x9))) := by rw [hσ2, sset_ne (sto_ne t0 ta1 (by simp))]; exact ta1
  have f5 : σ2 (A 2) = some (eI g 0 912 (fun x9 => nI ((ar 2) x9))) := by rw [hσ2, sset_ne (sto_ne t0 ta2 (by simp))]; exact ta2
  have f6 : σ2 (A 3) = some (eI g 0 114 (fun x9 => nI ((ar 3) x9))) := by rw [hσ2, sset_ne (sto_ne t0 ta3 (by simp))]; exact ta3
  have f7 : σ2 (A 4) = some (eI g 2 2048 (fun x9 => bI (rb x9))) := by rw [hσ2, sset_ne (sto_ne t0 ta4 (by simp))]; exact ta4
  have f8 : σ2 (A 5) = some (eI g 3 60 (fun x9 => nI ((ar 5) x9))) := by rw [hσ2, sset_ne (sto_ne t0 ta5 (by simp))]; exact ta5
  have f9 : σ2 (A 6) = some (eI g 3 60 (fun x9 => nI ((ar 6) x9))) := by rw [hσ2, sset_ne (sto_ne t0 ta6 (by simp))]; exact ta6
  have f10 : σ2 (A 7) = some (eI g 0 3 (fun x9 => nI ((ar 7) x9))) := by rw [hσ2, sset_ne (sto_ne t0 ta7 (by simp))]; exact ta7
  refine lv_iconst (v := (nI 0)) F.x F.cd dX3_tries_5 (by decide) ?_
  refine lv_istore_n (lv' := [(1, .int (nI 0)), (0, .ref m)]) F.x F.cd dX3_tries_6 rfl hl (by decide) rfl (fun ls hl => ?_)
  have tw11 : IsTw g σ2 m A (va_up iv 17 (nI 0)) wd ar rb := ⟨w2, tb0, f3, f4, f5, f6, f7, f8, f9, f10, tbb, tii⟩
  have fm11 : Fm σ σ2 m A := by rw [hσ2]; exact (Fm.refl).setM
  have loop7 : ∀ (nk : Nat) (k : Nat) (σk : Sto), k + nk = 114 → IsTw g σk m A (va_up iv 17 (nI 0)) wd (va_up ar 1 (cpT (ar 0) (ar 1) 0 k)) rb → Fm σ σk m A → ∀ (H : Heap) (locs : List Loc) (ls : Array Slot), Hl g σk H locs → lv_has ls 2 [(0, .ref m), (1, .int (nI k))] → W p_ l e_ ({ frames := 0, cells := 0, slots := 0, locals := 0 } : Room) s_ m_ args_ below_ meth_ c_ H locs 0 0 Q (F0 m_ 7 ls ([])) := by
    intro nk
    induction nk with
    | zero =>
      intro k σk hknk twk fmk H locs ls hW hl
      obtain ⟨t0_k12, -, ta0_k12, ta1_k12, ta2_k12, ta3_k12, ta4_k12, ta5_k12, ta6_k12, ta7_k12, -, -⟩ := id twk
      refine lv_iload_n F.x F.cd dX3_tries_7 rfl (lv_at hl 1 rfl) ?_
      refine lv_bipush (v := (nI 114)) F.x F.cd dX3_tries_8 (by decide) ?_
      refine n_icmp_ge (a := k) (b := 114) (tgt := 31) F (by omega) (by omega) dX3_tries_10 (by decide) (fun c_10 => ?_) (fun c_10 => ?_)
      · obtain ⟨σ13, hW, tv13, fv13⟩ := IsTw.norm1 twk hW (ar 0) (fun j hj => cpT_e (by omega))
        obtain ⟨t0_14, -, ta0_14, ta1_14, ta2_14, ta3_14, ta4_14, ta5_14, ta6_14, ta7_14, -, -⟩ := id tv13
        have fm_14 : Fm σ σ13 m A := (fmk).trans fv13
        have tw_14 : IsTw g σ13 m A (va_up iv 17 (nI 0)) wd (va_up ar 1 (ar 0)) rb := ⟨t0_14, tb0, ta0_14, ta1_14, ta2_14, ta3_14, ta4_14, ta5_14, ta6_14, ta7_14, tbb, tii⟩
        subst hQ
        exact s_retv F hW (⟨rfl, tw_14, fm_14⟩) ⟨(Nat.le_of_ble_eq_true rfl), (Nat.le_of_ble_eq_true rfl)⟩ dX3_tries_31
      · exact absurd c_10 (by omega)
    | succ nk ih7 =>
      intro k σk hknk twk fmk H locs ls hW hl
      obtain ⟨t0_k12, -, ta0_k12, ta1_k12, ta2_k12, ta3_k12, ta4_k12, ta5_k12, ta6_k12, ta7_k12, -, -⟩ := id twk
      refine lv_iload_n F.x F.cd dX3_tries_7 rfl (lv_at hl 1 rfl) ?_
      refine lv_bipush (v := (nI 114)) F.x F.cd dX3_tries_8 (by decide) ?_
      refine n_icmp_ge (a := k) (b := 114) (tgt := 31) F (by omega) (by omega) dX3_tries_10 (by decide) (fun c_10 => ?_) (fun c_10 => ?_)
      · exact absurd c_10 (by omega)
      · refine lv_aload_n F.x F.cd dX3_tries_13 rfl (lv_at hl 0 rfl) ?_
        refine s_get F hW (ci := 7) (C := RX3) (T := TX3) (N := 18) (v := .ref (A 1)) (t0_k12) rfl in_X3 1 (by decide) q2280 (fun _ h9 => h9) rfl dX3_tries_14 ?_
        refine lv_iload_n F.x F.cd dX3_tries_17 rfl (lv_at hl 1 rfl) ?_
        refine lv_aload_n F.x F.cd dX3_tries_18 rfl (lv_at hl 0 rfl) ?_
        refine s_get F hW (ci := 7) (C := RX3) (T := TX3) (N := 18) (v := .ref (A 0)) (t0_k12) rfl in_X3 0 (by decide) q2279 (fun _ h9 => h9) rfl dX3_tries_19 ?_
        refine lv_iload_n F.x F.cd dX3_tries_22 rfl (lv_at hl 1 rfl) ?_
        refine n_iald (i := k) (n := 114) (f := (fun x9 => nI ((ar 0) x9))) (x := (nI ((ar 0) k))) F hW (ta0_k12) (by omega) (by omega) (rfl) dX3_tries_23 ?_
        refine n_iastN (i := k) F hW (ta1_k12) (tbb 1 (by decide)) (by omega) (by omega) dX3_tries_24 (fun H locs hW => ?_)
        obtain ⟨σ15, hσ15⟩ : ∃ z, z = sset σk (A 1) (eI g 0 114 (fun x9 => nI ((va_up (cpT (ar 0) (ar 1) 0 k) k ((ar 0) k)) x9))) := ⟨_, rfl⟩
        have hW : Hl g σ15 H locs := by rw [hσ15]; exact hW
        have w15 : σ15 (A 1) = some (eI g 0 114 (fun x9 => nI ((va_up (cpT (ar 0) (ar 1) 0 k) k ((ar 0) k)) x9))) := by rw [hσ15]; exact sset_eq
        have f16 : σ15 m = some (.inr (7, [.ref (A 0), .ref (A 1), .ref (A 2), .int (iv 3), .ref (A 3), .int (iv 5), .ref (A 4), .ref (A 5), .int (iv 8), .ref (A 6), .int (iv 10), .int (iv 11), .ref wd, .ref (A 7), .int (iv 14), .int (iv 15), .int (iv 16), .int (nI 0)])) := by rw [hσ15, sset_ne (sto_ne ta1_k12 t0_k12 (by simp))]; exact t0_k12
        have f17 : σ15 (A 0) = some (eI g 0 114 (fun x9 => nI ((ar 0) x9))) := by rw [hσ15, sset_ne (fun q9 => absurd (tii 0 1 (by decide) (by decide) q9) (by decide))]; exact ta0_k12
        have f18 : σ15 (A 2) = some (eI g 0 912 (fun x9 => nI ((ar 2) x9))) := by rw [hσ15, sset_ne (fun q9 => absurd (tii 2 1 (by decide) (by decide) q9) (by decide))]; exact ta2_k12
        have f19 : σ15 (A 3) = some (eI g 0 114 (fun x9 => nI ((ar 3) x9))) := by rw [hσ15, sset_ne (fun q9 => absurd (tii 3 1 (by decide) (by decide) q9) (by decide))]; exact ta3_k12
        have f20 : σ15 (A 4) = some (eI g 2 2048 (fun x9 => bI (rb x9))) := by rw [hσ15, sset_ne (fun q9 => absurd (tii 4 1 (by decide) (by decide) q9) (by decide))]; exact ta4_k12
        have f21 : σ15 (A 5) = some (eI g 3 60 (fun x9 => nI ((ar 5) x9))) := by rw [hσ15, sset_ne (fun q9 => absurd (tii 5 1 (by decide) (by decide) q9) (by decide))]; exact ta5_k12
        have f22 : σ15 (A 6) = some (eI g 3 60 (fun x9 => nI ((ar 6) x9))) := by rw [hσ15, sset_ne (fun q9 => absurd (tii 6 1 (by decide) (by decide) q9) (by decide))]; exact ta6_k12
        have f23 : σ15 (A 7) = some (eI g 0 3 (fun x9 => nI ((ar 7) x9))) := by rw [hσ15, sset_ne (fun q9 => absurd (tii 7 1 (by decide) (by decide) q9) (by decide))]; exact ta7_k12
        refine lv_iinc (k := 1) (v := (nI (k + 1))) (lv' := [(1, .int (nI (k + 1))), (0, .ref m)]) F.x F.cd dX3_tries_25 hl rfl (inc_nI k 1) (by decide) rfl (fun ls hl => ?_)
        refine lv_goto (tgt := 7) F.x F.cd dX3_tries_28 (by decide) ?_
        have tw24 : IsTw g σ15 m A (va_up iv 17 (nI 0)) wd (va_up ar 1 (va_up (cpT (ar 0) (ar 1) 0 k) k ((ar 0) k))) rb := ⟨f16, tb0, f17, w15, f18, f19, f20, f21, f22, f23, tbb, tii⟩
        have fm24 : Fm σ σ15 m A := by rw [hσ15]; exact (fmk).setA 1 (by decide)
        exact ih7 (k + 1) σ15 (by omega) (by rw [← cpT_s0]; exact tw24) (fm24) H locs ls hW (lv_sub hl [1, 0] rfl)
  exact loop7 (114) 0 _ (by omega) (by rw [cpT_0]; exact tw11) (fm11) H locs ls hW (lv_sub hl [1, 0] rfl)
set_option maxHeartbeats 4000000 in
theorem k_X3_forgets (g : Gh) (l : Launch) (σ : Sto) (m : Nat) (A : Nat → Nat) (iv : Nat → Int32) (wd : Nat) (ar : Nat → Nat → Nat) (rb : Nat → Bool)  (hw : IsTw g σ m A iv wd ar rb)  : Ct g l yX3_forgets cX3_forgets 2 none ({ frames := 0, cells := 0, slots := 0, locals := 0 } : Room) [.ref m] σ (fun r σ' => r = none ∧ IsTw g σ' m A iv wd (va_up ar 0 (ar 1)) rb ∧ Fm σ σ' m A) (nox) := by
  refine Ct.body (by decide) (Nat.le_of_ble_eq_true rfl) ?_
  intro p_ e_ s_ m_ args_ below_ meth_ c_ ls H locs Q F hW hl hQ
  have hl : lv_has ls 2 [(0, .ref m)] := hl
  obtain ⟨t0, tb0, ta0, ta1, ta2, ta3, ta4, ta5, ta6, ta7, tbb, tii⟩ := id hw
  refine lv_iconst (v := (nI 0)) F.x F.cd dX3_forgets_0 (by decide) ?_
  refine lv_istore_n (lv' := [(1, .int (nI 0)), (0, .ref m)]) F.x F.cd dX3_forgets_1 rfl hl (by decide) rfl (fun ls hl => ?_)
  have loop2 : ∀ (nk : Nat) (k : Nat) (σk : Sto), k + nk = 114 → IsTw g σk m A iv wd (va_up ar 0 (cpT (ar 1) (ar 0) 0 k)) rb → Fm σ σk m A → ∀ (H : Heap) (locs : List Loc) (ls : Array Slot), Hl g σk H locs → lv_has ls 2 [(0, .ref m), (1, .int (nI k))] → W p_ l e_ ({ frames := 0, cells := 0, slots := 0, locals := 0 } : Room) s_ m_ args_ below_ meth_ c_ H locs 0 0 Q (F0 m_ 2 ls ([])) := by
    intro nk
    induction nk with
    | zero =>
      intro k σk hknk twk fmk H locs ls hW hl
      obtain ⟨t0_k1, -, ta0_k1, ta1_k1, ta2_k1, ta3_k1, ta4_k1, ta5_k1, ta6_k1, ta7_k1, -, -⟩ := id twk
      refine lv_iload_n F.x F.cd dX3_forgets_2 rfl (lv_at hl 1 rfl) ?_
      refine lv_bipush (v := (nI 114)) F.x F.cd dX3_forgets_3 (by decide) ?_
      refine n_icmp_ge (a := k) (b := 114) (tgt := 26) F (by omega) (by omega) dX3_forgets_5 (by decide) (fun c_5 => ?_) (fun c_5 => ?_)
      · obtain ⟨σ2, hW, tv2, fv2⟩ := IsTw.norm0 twk hW (ar 1) (fun j hj => cpT_e (by omega))
        obtain ⟨t0_3, -, ta0_3, ta1_3, ta2_3, ta3_3, ta4_3, ta5_3, ta6_3, ta7_3, -, -⟩ := id tv2
        have fm_3 : Fm σ σ2 m A := (fmk).trans fv2
        have tw_3 : IsTw g σ2 m A iv wd (va_up ar 0 (ar 1)) rb := ⟨t0_3, tb0, ta0_3, ta1_3, ta2_3, ta3_3, ta4_3, ta5_3, ta6_3, ta7_3, tbb, tii⟩
        subst hQ
        exact s_retv F hW (⟨rfl, tw_3, fm_3⟩) ⟨(Nat.le_of_ble_eq_true rfl), (Nat.le_of_ble_eq_true rfl)⟩ dX3_forgets_26
      · exact absurd c_5 (by omega)
    | succ nk ih2 =>
      intro k σk hknk twk fmk H locs ls hW hl
      obtain ⟨t0_k1, -, ta0_k1, ta1_k1, ta2_k1, ta3_k1, ta4_k1, ta5_k1, ta6_k1, ta7_k1, -, -⟩ := id twk
      refine lv_iload_n F.x F.cd dX3_forgets_2 rfl (lv_at hl 1 rfl) ?_
      refine lv_bipush (v := (nI 114)) F.x F.cd dX3_forgets_3 (by decide) ?_
      refine n_icmp_ge (a := k) (b := 114) (tgt := 26) F (by omega) (by omega) dX3_forgets_5 (by decide) (fun c_5 => ?_) (fun c_5 => ?_)
      · exact absurd c_5 (by omega)
      · refine lv_aload_n F.x F.cd dX3_forgets_8 rfl (lv_at hl 0 rfl) ?_
        refine s_get F hW (ci := 7) (C := RX3) (T := TX3) (N := 18) (v := .ref (A 0)) (t0_k1) rfl in_X3 0 (by decide) q2279 (fun _ h9 => h9) rfl dX3_forgets_9 ?_
        refine lv_iload_n F.x F.cd dX3_forgets_12 rfl (lv_at hl 1 rfl) ?_
        refine lv_aload_n F.x F.cd dX3_forgets_13 rfl (lv_at hl 0 rfl) ?_
        refine s_get F hW (ci := 7) (C := RX3) (T := TX3) (N := 18) (v := .ref (A 1)) (t0_k1) rfl in_X3 1 (by decide) q2280 (fun _ h9 => h9) rfl dX3_forgets_14 ?_
        refine lv_iload_n F.x F.cd dX3_forgets_17 rfl (lv_at hl 1 rfl) ?_
        refine n_iald (i := k) (n := 114) (f := (fun x9 => nI ((ar 1) x9))) (x := (nI ((ar 1) k))) F hW (ta1_k1) (by omega) (by omega) (rfl) dX3_forgets_18 ?_
        refine n_iastN (i := k) F hW (ta0_k1) (tbb 0 (by decide)) (by omega) (by omega) dX3_forgets_19 (fun H locs hW => ?_)
        obtain ⟨σ4, hσ4⟩ : ∃ z, z = sset σk (A 0) (eI g 0 114 (fun x9 => nI ((va_up (cpT (ar 1) (ar 0) 0 k) k ((ar 1) k)) x9))) := ⟨_, rfl⟩
        have hW : Hl g σ4 H locs := by rw [hσ4]; exact hW
        have w4 : σ4 (A 0) = some (eI g 0 114 (fun x9 => nI ((va_up (cpT (ar 1) (ar 0) 0 k) k ((ar 1) k)) x9))) := by rw [hσ4]; exact sset_eq
        have f5 : σ4 m = some (.inr (7, [.ref (A 0), .ref (A 1), .ref (A 2), .int (iv 3), .ref (A 3), .int (iv 5), .ref (A 4), .ref (A 5), .int (iv 8), .ref (A 6), .int (iv 10), .int (iv 11), .ref wd, .ref (A 7), .int (iv 14), .int (iv 15), .int (iv 16), .int (iv 17)])) := by rw [hσ4, sset_ne (sto_ne ta0_k1 t0_k1 (by simp))]; exact t0_k1
        have f6 : σ4 (A 1) = some (eI g 0 114 (fun x9 => nI ((ar 1) x9))) := by rw [hσ4, sset_ne (fun q9 => absurd (tii 1 0 (by decide) (by decide) q9) (by decide))]; exact ta1_k1
        have f7 : σ4 (A 2) = some (eI g 0 912 (fun x9 => nI ((ar 2) x9))) := by rw [hσ4, sset_ne (fun q9 => absurd (tii 2 0 (by decide) (by decide) q9) (by decide))]; exact ta2_k1
        have f8 : σ4 (A 3) = some (eI g 0 114 (fun x9 => nI ((ar 3) x9))) := by rw [hσ4, sset_ne (fun q9 => absurd (tii 3 0 (by decide) (by decide) q9) (by decide))]; exact ta3_k1
        have f9 : σ4 (A 4) = some (eI g 2 2048 (fun x9 => bI (rb x9))) := by rw [hσ4, sset_ne (fun q9 => absurd (tii 4 0 (by decide) (by decide) q9) (by decide))]; exact ta4_k1
        have f10 : σ4 (A 5) = some (eI g 3 60 (fun x9 => nI ((ar 5) x9))) := by rw [hσ4, sset_ne (fun q9 => absurd (tii 5 0 (by decide) (by decide) q9) (by decide))]; exact ta5_k1
        have f11 : σ4 (A 6) = some (eI g 3 60 (fun x9 => nI ((ar 6) x9))) := by rw [hσ4, sset_ne (fun q9 => absurd (tii 6 0 (by decide) (by decide) q9) (by decide))]; exact ta6_k1
        have f12 : σ4 (A 7) = some (eI g 0 3 (fun x9 => nI ((ar 7) x9))) := by rw [hσ4, sset_ne (fun q9 => absurd (tii 7 0 (by decide) (by decide) q9) (by decide))]; exact ta7_k1
        refine lv_iinc (k := 1) (v := (nI (k + 1))) (lv' := [(1, .int (nI (k + 1))), (0, .ref m)]) F.x F.cd dX3_forgets_20 hl rfl (inc_nI k 1) (by decide) rfl (fun ls hl => ?_)
        refine lv_goto (tgt := 2) F.x F.cd dX3_forgets_23 (by decide) ?_
        have tw13 : IsTw g σ4 m A iv wd (va_up ar 0 (va_up (cpT (ar 1) (ar 0) 0 k) k ((ar 1) k))) rb := ⟨f5, tb0, w4, f6, f7, f8, f9, f10, f11, f12, tbb, tii⟩
        have fm13 : Fm σ σ4 m A := by rw [hσ4]; exact (fmk).setA 0 (by decide)
        exact ih2 (k + 1) σ4 (by omega) (by rw [← cpT_s0]; exact tw13) (fm13) H locs ls hW (lv_sub hl [1, 0] rfl)
  exact loop2 (114) 0 _ (by omega) (by rw [cpT_0]; exact hw) (Fm.refl) H locs ls hW (lv_sub hl [1, 0] rfl)
set_option maxHeartbeats 4000000 in
theorem k_X3_ends (g : Gh) (l : Launch) (σ : Sto) (m : Nat) (A : Nat → Nat) (iv : Nat → Int32) (wd : Nat) (ar : Nat → Nat → Nat) (rb : Nat → Bool) (n u : Nat) (hw : IsTw g σ m A iv wd ar rb) (hn : n < 2 ^ 31) (hu : iv 3 = nI u) (hu8 : u ≤ 8) : Ct g l yX3_ends cX3_ends 3 (some .int) ({ frames := 1, cells := 0, slots := 0, locals := 21 } : Room) [.ref m, .int (nI n)] σ (fun r σ' => (0 < n → r = some (.int (nI 0)) ∧ IsTw g σ' m A (va_up iv 17 (nI n)) wd ar rb ∧ Fm σ σ' m A) ∧ (n = 0 → r = some (.int (iv 16)) ∧ IsTw g σ' m A (va_up iv 3 (nI (min u 7 + 1))) wd (va_up ar 2 (cpT (ar 1) (if u = 8 then shT (ar 2) 798 else ar 2) (114 * min u 7) 114)) rb ∧ Fm σ σ' m A)) (nox) := by
  refine Ct.body (by decide) (Nat.le_of_ble_eq_true rfl) ?_
  intro p_ e_ s_ m_ args_ below_ meth_ c_ ls H locs Q F hW hl hQ
  have hl : lv_has ls 3 [(0, .ref m), (1, .int (nI n))] := hl
  obtain ⟨t0, tb0, ta0, ta1, ta2, ta3, ta4, ta5, ta6, ta7, tbb, tii⟩ := id hw
  refine lv_iload_n F.x F.cd dX3_ends_0 rfl (lv_at hl 1 rfl) ?_
  refine n_if_le (a := n) (tgt := 10) F (by omega) dX3_ends_1 (by decide) (fun c_1 => ?_) (fun c_1 => ?_)
  · have tw_1 : IsTw g σ m A (va_up iv 3 (nI u)) wd ar rb := by
      rw [← hu]
      exact ⟨t0, tb0, ta0, ta1, ta2, ta3, ta4, ta5, ta6, ta7, tbb, tii⟩
    obtain ⟨t0_1, -, ta0_1, ta1_1, ta2_1, ta3_1, ta4_1, ta5_1, ta6_1, ta7_1, -, -⟩ := id tw_1
    refine lv_aload_n F.x F.cd dX3_ends_10 rfl (lv_at hl 0 rfl) ?_
    refine s_get F hW (ci := 7) (C := RX3) (T := TX3) (N := 18) (v := .int (nI u)) (t0_1) rfl in_X3 3 (by decide) q2282 (fun _ h9 => h9) rfl dX3_ends_11 ?_
    refine lv_bipush (v := (nI 8)) F.x F.cd dX3_ends_14 (by decide) ?_
    refine n_icmp_ne (a := u) (b := 8) (tgt := 59) F (by omega) (by omega) dX3_ends_16 (by decide) (fun c_16 => ?_) (fun c_16 => ?_)
    · have tw_2 : IsTw g σ m A (va_up iv 3 (nI (min u 7))) wd (va_up ar 2 (if u = 8 then shT (ar 2) 798 else ar 2)) rb := by
        rw [show min u 7 = u by omega, if_neg (by omega)]
        exact ⟨t0_1, tb0, ta0_1, ta1_1, ta2_1, ta3_1, ta4_1, ta5_1, ta6_1, ta7_1, tbb, tii⟩
      obtain ⟨t0_2, -, ta0_2, ta1_2, ta2_2, ta3_2, ta4_2, ta5_2, ta6_2, ta7_2, -, -⟩ := id tw_2
      refine lv_iconst (v := (nI 0)) F.x F.cd dX3_ends_59 (by decide) ?_
      refine lv_istore_n (lv' := [(2, .int (nI 0)), (0, .ref m), (1, .int (nI n))]) F.x F.cd dX3_ends_60 rfl hl (by decide) rfl (fun ls hl => ?_)
      have loop61 : ∀ (nkj : Nat) (kj : Nat) (σk : Sto), kj + nkj = 114 → IsTw g σk m A (va_up iv 3 (nI (min u 7))) wd (va_up ar 2 (cpT (ar 1) (if u = 8 then shT (ar 2) 798 else ar 2) (114 * min u 7) kj)) rb → Fm σ σk m A → ∀ (H : Heap) (locs : List Loc) (ls : Array Slot), Hl g σk H locs → lv_has ls 3 [(0, .ref m), (1, .int (nI n)), (2, .int (nI kj))] → W p_ l e_ ({ frames := 1, cells := 0, slots := 0, locals := 21 } : Room) s_ m_ args_ below_ meth_ c_ H locs 0 0 Q (F0 m_ 61 ls ([])) := by
        intro nkj
        induction nkj with
        | zero =>
          intro kj σk hknkj twk fmk H locs ls hW hl
          obtain ⟨t0_k3, -, ta0_k3, ta1_k3, ta2_k3, ta3_k3, ta4_k3, ta5_k3, ta6_k3, ta7_k3, -, -⟩ := id twk
          refine lv_iload_n F.x F.cd dX3_ends_61 rfl (lv_at hl 2 rfl) ?_
          refine lv_bipush (v := (nI 114)) F.x F.cd dX3_ends_62 (by decide) ?_
          refine n_icmp_ge (a := kj) (b := 114) (tgt := 93) F (by omega) (by omega) dX3_ends_64 (by decide) (fun c_64 => ?_) (fun c_64 => ?_)
          · have tw_4 : IsTw g σk m A (va_up iv 3 (nI (min u 7))) wd (va_up ar 2 (cpT (ar 1) (if u = 8 then shT (ar 2) 798 else ar 2) (114 * min u 7) 114)) rb := by
              have e9 : kj = 114 := by omega
              subst e9
              exact ⟨t0_k3, tb0, ta0_k3, ta1_k3, ta2_k3, ta3_k3, ta4_k3, ta5_k3, ta6_k3, ta7_k3, tbb, tii⟩
            obtain ⟨t0_4, -, ta0_4, ta1_4, ta2_4, ta3_4, ta4_4, ta5_4, ta6_4, ta7_4, -, -⟩ := id tw_4
            refine lv_aload_n F.x F.cd dX3_ends_93 rfl (lv_at hl 0 rfl) ?_
            refine lv_dup F.x F.cd dX3_ends_94 rfl ?_
            refine s_get F hW (ci := 7) (C := RX3) (T := TX3) (N := 18) (v := .int (nI (min u 7))) (t0_4) rfl in_X3 3 (by decide) q2282 (fun _ h9 => h9) rfl dX3_ends_95 ?_
            refine lv_iconst (v := (nI 1)) F.x F.cd dX3_ends_98 (by decide) ?_
            refine a_iadd (v := (nI (min u 7 + 1))) F (nI_add _ _) dX3_ends_99 ?_
            refine s_put F hW (ci := 7) (C := RX3) (T := TX3) (N := 18) (v := .int (nI (min u 7 + 1))) (ty := .int) (t0_4) (tb0) rfl in_X3 tyX3_ok nmX3 3 (by decide) q2282 (fun _ h9 => h9) rfl (by decide +kernel) rfl rfl (Nat.le_of_ble_eq_true rfl) dX3_ends_100 (fun H locs hW => ?_)
            obtain ⟨σ6, hσ6⟩ : ∃ z, z = sset σk m (.inr (7, [.ref (A 0), .ref (A 1), .ref (A 2), .int (nI (min u 7 + 1)), .ref (A 3), .int (iv 5), .ref (A 4), .ref (A 5), .int (iv 8), .ref (A 6), .int (iv 10), .int (iv 11), .ref wd, .ref (A 7), .int (iv 14), .int (iv 15), .int (iv 16), .int (iv 17)])) := ⟨_, rfl⟩
            have hW : Hl g σ6 H locs := by rw [hσ6]; exact hW
            have w6 : σ6 m = some (.inr (7, [.ref (A 0), .ref (A 1), .ref (A 2), .int (nI (min u 7 + 1)), .ref (A 3), .int (iv 5), .ref (A 4), .ref (A 5), .int (iv 8), .ref (A 6), .int (iv 10), .int (iv 11), .ref wd, .ref (A 7), .int (iv 14), .int (iv 15), .int (iv 16), .int (iv 17)])) := by rw [hσ6]; exact sset_eq
            have f7 : σ6 (A 0) = some (eI g 0 114 (fun x9 => nI ((ar 0) x9))) := by rw [hσ6, sset_ne (sto_ne t0_4 ta0_4 (by simp))]; exact ta0_4
            have f8 : σ6 (A 1) = some (eI g 0 114 (fun x9 => nI ((ar 1) x9))) := by rw [hσ6, sset_ne (sto_ne t0_4 ta1_4 (by simp))]; exact ta1_4
            have f9 : σ6 (A 2) = some (eI g 0 912 (fun x9 => nI ((cpT (ar 1) (if u = 8 then shT (ar 2) 798 else ar 2) (114 * min u 7) 114) x9))) := by rw [hσ6, sset_ne (sto_ne t0_4 ta2_4 (by simp))]; exact ta2_4
            have f10 : σ6 (A 3) = some (eI g 0 114 (fun x9 => nI ((ar 3) x9))) := by rw [hσ6, sset_ne (sto_ne t0_4 ta3_4 (by simp))]; exact ta3_4
            have f11 : σ6 (A 4) = some (eI g 2 2048 (fun x9 => bI (rb x9))) := by rw [hσ6, sset_ne (sto_ne t0_4 ta4_4 (by simp))]; exact ta4_4
            have f12 : σ6 (A 5) = some (eI g 3 60 (fun x9 => nI ((ar 5) x9))) := by rw [hσ6, sset_ne (sto_ne t0_4 ta5_4 (by simp))]; exact ta5_4
            have f13 : σ6 (A 6) = some (eI g 3 60 (fun x9 => nI ((ar 6) x9))) := by rw [hσ6, sset_ne (sto_ne t0_4 ta6_4 (by simp))]; exact ta6_4
            have f14 : σ6 (A 7) = some (eI g 0 3 (fun x9 => nI ((ar 7) x9))) := by rw [hσ6, sset_ne (sto_ne t0_4 ta7_4 (by simp))]; exact ta7_4
            refine lv_aload_n F.x F.cd dX3_ends_103 rfl (lv_at hl 0 rfl) ?_
            refine s_get F hW (ci := 7) (C := RX3) (T := TX3) (N := 18) (v := .int (iv 16)) (w6) rfl in_X3 16 (by decide) q2295 (fun _ h9 => h9) rfl dX3_ends_104 ?_
            have tw15 : IsTw g σ6 m A (va_up iv 3 (nI (min u 7 + 1))) wd (va_up ar 2 (cpT (ar 1) (if u = 8 then shT (ar 2) 798 else ar 2) (114 * min u 7) 114)) rb := ⟨w6, tb0, f7, f8, f9, f10, f11, f12, f13, f14, tbb, tii⟩
            have fm15 : Fm σ σ6 m A := by rw [hσ6]; exact (fmk).setM
            subst hQ
            exact s_reti (v := (iv 16)) F hW rfl (⟨fun h9 => absurd h9 (by omega), fun _ => ⟨rfl, tw15, fm15⟩⟩) ⟨(Nat.le_of_ble_eq_true rfl), (Nat.le_of_ble_eq_true rfl)⟩ dX3_ends_107
          · exact absurd c_64 (by omega)
        | succ nkj ih61 =>
          intro kj σk hknkj twk fmk H locs ls hW hl
          obtain ⟨t0_k3, -, ta0_k3, ta1_k3, ta2_k3, ta3_k3, ta4_k3, ta5_k3, ta6_k3, ta7_k3, -, -⟩ := id twk
          refine lv_iload_n F.x F.cd dX3_ends_61 rfl (lv_at hl 2 rfl) ?_
          refine lv_bipush (v := (nI 114)) F.x F.cd dX3_ends_62 (by decide) ?_
          refine n_icmp_ge (a := kj) (b := 114) (tgt := 93) F (by omega) (by omega) dX3_ends_64 (by decide) (fun c_64 => ?_) (fun c_64 => ?_)
          · exact absurd c_64 (by omega)
          · refine lv_aload_n F.x F.cd dX3_ends_67 rfl (lv_at hl 0 rfl) ?_
            refine s_get F hW (ci := 7) (C := RX3) (T := TX3) (N := 18) (v := .ref (A 2)) (t0_k3) rfl in_X3 2 (by decide) q2281 (fun _ h9 => h9) rfl dX3_ends_68 ?_
            refine lv_bipush (v := (nI 114)) F.x F.cd dX3_ends_71 (by decide) ?_
            refine lv_aload_n F.x F.cd dX3_ends_73 rfl (lv_at hl 0 rfl) ?_
            refine s_get F hW (ci := 7) (C := RX3) (T := TX3) (N := 18) (v := .int (nI (min u 7))) (t0_k3) rfl in_X3 3 (by decide) q2282 (fun _ h9 => h9) rfl dX3_ends_74 ?_
            refine a_imul (v := (nI (114 * (min u 7)))) F (pk_mul _ _) dX3_ends_77 ?_
            refine lv_iload_n F.x F.cd dX3_ends_78 rfl (lv_at hl 2 rfl) ?_
            refine a_iadd (v := (nI (114 * (min u 7) + kj))) F (nI_add _ _) dX3_ends_79 ?_
            refine lv_aload_n F.x F.cd dX3_ends_80 rfl (lv_at hl 0 rfl) ?_
            refine s_get F hW (ci := 7) (C := RX3) (T := TX3) (N := 18) (v := .ref (A 1)) (t0_k3) rfl in_X3 1 (by decide) q2280 (fun _ h9 => h9) rfl dX3_ends_81 ?_
            refine lv_iload_n F.x F.cd dX3_ends_84 rfl (lv_at hl 2 rfl) ?_
            refine n_iald (i := kj) (n := 114) (f := (fun x9 => nI ((ar 1) x9))) (x := (nI ((ar 1) kj))) F hW (ta1_k3) (by omega) (by omega) (rfl) dX3_ends_85 ?_
            refine n_iastN (i := 114 * (min u 7) + kj) F hW (ta2_k3) (tbb 2 (by decide)) (by omega) (by omega) dX3_ends_86 (fun H locs hW => ?_)
            obtain ⟨σ16, hσ16⟩ : ∃ z, z = sset σk (A 2) (eI g 0 912 (fun x9 => nI ((va_up (cpT (ar 1) (if u = 8 then shT (ar 2) 798 else ar 2) (114 * min u 7) kj) (114 * (min u 7) + kj) ((ar 1) kj)) x9))) := ⟨_, rfl⟩
            have hW : Hl g σ16 H locs := by rw [hσ16]; exact hW
            have w16 : σ16 (A 2) = some (eI g 0 912 (fun x9 => nI ((va_up (cpT (ar 1) (if u = 8 then shT (ar 2) 798 else ar 2) (114 * min u 7) kj) (114 * (min u 7) + kj) ((ar 1) kj)) x9))) := by rw [hσ16]; exact sset_eq
            have f17 : σ16 m = some (.inr (7, [.ref (A 0), .ref (A 1), .ref (A 2), .int (nI (min u 7)), .ref (A 3), .int (iv 5), .ref (A 4), .ref (A 5), .int (iv 8), .ref (A 6), .int (iv 10), .int (iv 11), .ref wd, .ref (A 7), .int (iv 14), .int (iv 15), .int (iv 16), .int (iv 17)])) := by rw [hσ16, sset_ne (sto_ne ta2_k3 t0_k3 (by simp))]; exact t0_k3
            have f18 : σ16 (A 0) = some (eI g 0 114 (fun x9 => nI ((ar 0) x9))) := by rw [hσ16, sset_ne (fun q9 => absurd (tii 0 2 (by decide) (by decide) q9) (by decide))]; exact ta0_k3
            have f19 : σ16 (A 1) = some (eI g 0 114 (fun x9 => nI ((ar 1) x9))) := by rw [hσ16, sset_ne (fun q9 => absurd (tii 1 2 (by decide) (by decide) q9) (by decide))]; exact ta1_k3
            have f20 : σ16 (A 3) = some (eI g 0 114 (fun x9 => nI ((ar 3) x9))) := by rw [hσ16, sset_ne (fun q9 => absurd (tii 3 2 (by decide) (by decide) q9) (by decide))]; exact ta3_k3
            have f21 : σ16 (A 4) = some (eI g 2 2048 (fun x9 => bI (rb x9))) := by rw [hσ16, sset_ne (fun q9 => absurd (tii 4 2 (by decide) (by decide) q9) (by decide))]; exact ta4_k3
            have f22 : σ16 (A 5) = some (eI g 3 60 (fun x9 => nI ((ar 5) x9))) := by rw [hσ16, sset_ne (fun q9 => absurd (tii 5 2 (by decide) (by decide) q9) (by decide))]; exact ta5_k3
            have f23 : σ16 (A 6) = some (eI g 3 60 (fun x9 => nI ((ar 6) x9))) := by rw [hσ16, sset_ne (fun q9 => absurd (tii 6 2 (by decide) (by decide) q9) (by decide))]; exact ta6_k3
            have f24 : σ16 (A 7) = some (eI g 0 3 (fun x9 => nI ((ar 7) x9))) := by rw [hσ16, sset_ne (fun q9 => absurd (tii 7 2 (by decide) (by decide) q9) (by decide))]; exact ta7_k3
            refine lv_iinc (k := 2) (v := (nI (kj + 1))) (lv' := [(2, .int (nI (kj + 1))), (0, .ref m), (1, .int (nI n))]) F.x F.cd dX3_ends_87 hl rfl (inc_nI kj 1) (by decide) rfl (fun ls hl => ?_)
            refine lv_goto (tgt := 61) F.x F.cd dX3_ends_90 (by decide) ?_
            have tw25 : IsTw g σ16 m A (va_up iv 3 (nI (min u 7))) wd (va_up ar 2 (va_up (cpT (ar 1) (if u = 8 then shT (ar 2) 798 else ar 2) (114 * min u 7) kj) (114 * (min u 7) + kj) ((ar 1) kj))) rb := ⟨f17, tb0, f18, f19, w16, f20, f21, f22, f23, f24, tbb, tii⟩
            have fm25 : Fm σ σ16 m A := by rw [hσ16]; exact (fmk).setA 2 (by decide)
            exact ih61 (kj + 1) σ16 (by omega) (by rw [← cpT_s]; exact tw25) (fm25) H locs ls hW (lv_sub hl [1, 2, 0] rfl)
      exact loop61 (114) 0 _ (by omega) (by rw [cpT_0]; exact tw_2) (Fm.refl) H locs ls hW (lv_sub hl [1, 2, 0] rfl)
    · refine lv_iconst (v := (nI 0)) F.x F.cd dX3_ends_19 (by decide) ?_
      refine lv_istore_n (lv' := [(2, .int (nI 0)), (0, .ref m), (1, .int (nI n))]) F.x F.cd dX3_ends_20 rfl hl (by decide) rfl (fun ls hl => ?_)
      have loop21 : ∀ (nk : Nat) (k : Nat) (σk : Sto), k + nk = 798 → IsTw g σk m A (va_up iv 3 (nI u)) wd (va_up ar 2 (shT (ar 2) k)) rb → Fm σ σk m A → ∀ (H : Heap) (locs : List Loc) (ls : Array Slot), Hl g σk H locs → lv_has ls 3 [(0, .ref m), (1, .int (nI n)), (2, .int (nI k))] → W p_ l e_ ({ frames := 1, cells := 0, slots := 0, locals := 21 } : Room) s_ m_ args_ below_ meth_ c_ H locs 0 0 Q (F0 m_ 21 ls ([])) := by
        intro nk
        induction nk with
        | zero =>
          intro k σk hknk twk fmk H locs ls hW hl
          obtain ⟨t0_k27, -, ta0_k27, ta1_k27, ta2_k27, ta3_k27, ta4_k27, ta5_k27, ta6_k27, ta7_k27, -, -⟩ := id twk
          refine lv_iload_n F.x F.cd dX3_ends_21 rfl (lv_at hl 2 rfl) ?_
          refine lv_sipush (v := (nI 798)) F.x F.cd dX3_ends_22 (by decide) ?_
          refine n_icmp_ge (a := k) (b := 798) (tgt := 49) F (by omega) (by omega) dX3_ends_25 (by decide) (fun c_25 => ?_) (fun c_25 => ?_)
          · have tw_28 : IsTw g σk m A (va_up iv 3 (nI u)) wd (va_up ar 2 (shT (ar 2) 798)) rb := by
              have e9 : k = 798 := by omega
              subst e9
              exact ⟨t0_k27, tb0, ta0_k27, ta1_k27, ta2_k27, ta3_k27, ta4_k27, ta5_k27, ta6_k27, ta7_k27, tbb, tii⟩
            obtain ⟨t0_28, -, ta0_28, ta1_28, ta2_28, ta3_28, ta4_28, ta5_28, ta6_28, ta7_28, -, -⟩ := id tw_28
            refine lv_aload_n F.x F.cd dX3_ends_49 rfl (lv_at hl 0 rfl) ?_
            refine lv_dup F.x F.cd dX3_ends_50 rfl ?_
            refine s_get F hW (ci := 7) (C := RX3) (T := TX3) (N := 18) (v := .int (nI u)) (t0_28) rfl in_X3 3 (by decide) q2282 (fun _ h9 => h9) rfl dX3_ends_51 ?_
            refine lv_iconst (v := (nI 1)) F.x F.cd dX3_ends_54 (by decide) ?_
            refine a_isub (v := (nI (u - 1))) F (pk_sub (by omega)) dX3_ends_55 ?_
            refine s_put F hW (ci := 7) (C := RX3) (T := TX3) (N := 18) (v := .int (nI (u - 1))) (ty := .int) (t0_28) (tb0) rfl in_X3 tyX3_ok nmX3 3 (by decide) q2282 (fun _ h9 => h9) rfl (by decide +kernel) rfl rfl (Nat.le_of_ble_eq_true rfl) dX3_ends_56 (fun H locs hW => ?_)
            obtain ⟨σ30, hσ30⟩ : ∃ z, z = sset σk m (.inr (7, [.ref (A 0), .ref (A 1), .ref (A 2), .int (nI (u - 1)), .ref (A 3), .int (iv 5), .ref (A 4), .ref (A 5), .int (iv 8), .ref (A 6), .int (iv 10), .int (iv 11), .ref wd, .ref (A 7), .int (iv 14), .int (iv 15), .int (iv 16), .int (iv 17)])) := ⟨_, rfl⟩
            have hW : Hl g σ30 H locs := by rw [hσ30]; exact hW
            have w30 : σ30 m = some (.inr (7, [.ref (A 0), .ref (A 1), .ref (A 2), .int (nI (u - 1)), .ref (A 3), .int (iv 5), .ref (A 4), .ref (A 5), .int (iv 8), .ref (A 6), .int (iv 10), .int (iv 11), .ref wd, .ref (A 7), .int (iv 14), .int (iv 15), .int (iv 16), .int (iv 17)])) := by rw [hσ30]; exact sset_eq
            have f31 : σ30 (A 0) = some (eI g 0 114 (fun x9 => nI ((ar 0) x9))) := by rw [hσ30, sset_ne (sto_ne t0_28 ta0_28 (by simp))]; exact ta0_28
            have f32 : σ30 (A 1) = some (eI g 0 114 (fun x9 => nI ((ar 1) x9))) := by rw [hσ30, sset_ne (sto_ne t0_28 ta1_28 (by simp))]; exact ta1_28
            have f33 : σ30 (A 2) = some (eI g 0 912 (fun x9 => nI ((shT (ar 2) 798) x9))) := by rw [hσ30, sset_ne (sto_ne t0_28 ta2_28 (by simp))]; exact ta2_28
            have f34 : σ30 (A 3) = some (eI g 0 114 (fun x9 => nI ((ar 3) x9))) := by rw [hσ30, sset_ne (sto_ne t0_28 ta3_28 (by simp))]; exact ta3_28
            have f35 : σ30 (A 4) = some (eI g 2 2048 (fun x9 => bI (rb x9))) := by rw [hσ30, sset_ne (sto_ne t0_28 ta4_28 (by simp))]; exact ta4_28
            have f36 : σ30 (A 5) = some (eI g 3 60 (fun x9 => nI ((ar 5) x9))) := by rw [hσ30, sset_ne (sto_ne t0_28 ta5_28 (by simp))]; exact ta5_28
            have f37 : σ30 (A 6) = some (eI g 3 60 (fun x9 => nI ((ar 6) x9))) := by rw [hσ30, sset_ne (sto_ne t0_28 ta6_28 (by simp))]; exact ta6_28
            have f38 : σ30 (A 7) = some (eI g 0 3 (fun x9 => nI ((ar 7) x9))) := by rw [hσ30, sset_ne (sto_ne t0_28 ta7_28 (by simp))]; exact ta7_28
            have tw39 : IsTw g σ30 m A (va_up iv 3 (nI (u - 1))) wd (va_up ar 2 (shT (ar 2) 798)) rb := ⟨w30, tb0, f31, f32, f33, f34, f35, f36, f37, f38, tbb, tii⟩
            have fm39 : Fm σ σ30 m A := by rw [hσ30]; exact (fmk).setM
            have tw_40 : IsTw g σ30 m A (va_up iv 3 (nI (min u 7))) wd (va_up ar 2 (if u = 8 then shT (ar 2) 798 else ar 2)) rb := by
              rw [show min u 7 = u - 1 by omega, if_pos (by omega)]
              exact ⟨w30, tb0, f31, f32, f33, f34, f35, f36, f37, f38, tbb, tii⟩
            obtain ⟨t0_40, -, ta0_40, ta1_40, ta2_40, ta3_40, ta4_40, ta5_40, ta6_40, ta7_40, -, -⟩ := id tw_40
            refine lv_iconst (v := (nI 0)) F.x F.cd dX3_ends_59 (by decide) ?_
            refine lv_istore_n (lv' := [(2, .int (nI 0)), (0, .ref m), (1, .int (nI n))]) F.x F.cd dX3_ends_60 rfl hl (by decide) rfl (fun ls hl => ?_)
            have loop61 : ∀ (nkj : Nat) (kj : Nat) (σk : Sto), kj + nkj = 114 → IsTw g σk m A (va_up iv 3 (nI (min u 7))) wd (va_up ar 2 (cpT (ar 1) (if u = 8 then shT (ar 2) 798 else ar 2) (114 * min u 7) kj)) rb → Fm σ σk m A → ∀ (H : Heap) (locs : List Loc) (ls : Array Slot), Hl g σk H locs → lv_has ls 3 [(0, .ref m), (1, .int (nI n)), (2, .int (nI kj))] → W p_ l e_ ({ frames := 1, cells := 0, slots := 0, locals := 21 } : Room) s_ m_ args_ below_ meth_ c_ H locs 0 0 Q (F0 m_ 61 ls ([])) := by
              intro nkj
              induction nkj with
              | zero =>
                intro kj σk hknkj twk fmk H locs ls hW hl
                obtain ⟨t0_k41, -, ta0_k41, ta1_k41, ta2_k41, ta3_k41, ta4_k41, ta5_k41, ta6_k41, ta7_k41, -, -⟩ := id twk
                refine lv_iload_n F.x F.cd dX3_ends_61 rfl (lv_at hl 2 rfl) ?_
                refine lv_bipush (v := (nI 114)) F.x F.cd dX3_ends_62 (by decide) ?_
                refine n_icmp_ge (a := kj) (b := 114) (tgt := 93) F (by omega) (by omega) dX3_ends_64 (by decide) (fun c_64 => ?_) (fun c_64 => ?_)
                · have tw_42 : IsTw g σk m A (va_up iv 3 (nI (min u 7))) wd (va_up ar 2 (cpT (ar 1) (if u = 8 then shT (ar 2) 798 else ar 2) (114 * min u 7) 114)) rb := by
                    have e9 : kj = 114 := by omega
                    subst e9
                    exact ⟨t0_k41, tb0, ta0_k41, ta1_k41, ta2_k41, ta3_k41, ta4_k41, ta5_k41, ta6_k41, ta7_k41, tbb, tii⟩
                  obtain ⟨t0_42, -, ta0_42, ta1_42, ta2_42, ta3_42, ta4_42, ta5_42, ta6_42, ta7_42, -, -⟩ := id tw_42
                  refine lv_aload_n F.x F.cd dX3_ends_93 rfl (lv_at hl 0 rfl) ?_
                  refine lv_dup F.x F.cd dX3_ends_94 rfl ?_
                  refine s_get F hW (ci := 7) (C := RX3) (T := TX3) (N := 18) (v := .int (nI (min u 7))) (t0_42) rfl in_X3 3 (by decide) q2282 (fun _ h9 => h9) rfl dX3_ends_95 ?_
                  refine lv_iconst (v := (nI 1)) F.x F.cd dX3_ends_98 (by decide) ?_
                  refine a_iadd (v := (nI (min u 7 + 1))) F (nI_add _ _) dX3_ends_99 ?_
                  refine s_put F hW (ci := 7) (C := RX3) (T := TX3) (N := 18) (v := .int (nI (min u 7 + 1))) (ty := .int) (t0_42) (tb0) rfl in_X3 tyX3_ok nmX3 3 (by decide) q2282 (fun _ h9 => h9) rfl (by decide +kernel) rfl rfl (Nat.le_of_ble_eq_true rfl) dX3_ends_100 (fun H locs hW => ?_)
                  obtain ⟨σ44, hσ44⟩ : ∃ z, z = sset σk m (.inr (7, [.ref (A 0), .ref (A 1), .ref (A 2), .int (nI (min u 7 + 1)), .ref (A 3), .int (iv 5), .ref (A 4), .ref (A 5), .int (iv 8), .ref (A 6), .int (iv 10), .int (iv 11), .ref wd, .ref (A 7), .int (iv 14), .int (iv 15), .int (iv 16), .int (iv 17)])) := ⟨_, rfl⟩
                  have hW : Hl g σ44 H locs := by rw [hσ44]; exact hW
                  have w44 : σ44 m = some (.inr (7, [.ref (A 0), .ref (A 1), .ref (A 2), .int (nI (min u 7 + 1)), .ref (A 3), .int (iv 5), .ref (A 4), .ref (A 5), .int (iv 8), .ref (A 6), .int (iv 10), .int (iv 11), .ref wd, .ref (A 7), .int (iv 14), .int (iv 15), .int (iv 16), .int (iv 17)])) := by rw [hσ44]; exact sset_eq
                  have f45 : σ44 (A 0) = some (eI g 0 114 (fun x9 => nI ((ar 0) x9))) := by rw [hσ44, sset_ne (sto_ne t0_42 ta0_42 (by simp))]; exact ta0_42
                  have f46 : σ44 (A 1) = some (eI g 0 114 (fun x9 => nI ((ar 1) x9))) := by rw [hσ44, sset_ne (sto_ne t0_42 ta1_42 (by simp))]; exact ta1_42
                  have f47 : σ44 (A 2) = some (eI g 0 912 (fun x9 => nI ((cpT (ar 1) (if u = 8 then shT (ar 2) 798 else ar 2) (114 * min u 7) 114) x9))) := by rw [hσ44, sset_ne (sto_ne t0_42 ta2_42 (by simp))]; exact ta2_42
                  have f48 : σ44 (A 3) = some (eI g 0 114 (fun x9 => nI ((ar 3) x9))) := by rw [hσ44, sset_ne (sto_ne t0_42 ta3_42 (by simp))]; exact ta3_42
                  have f49 : σ44 (A 4) = some (eI g 2 2048 (fun x9 => bI (rb x9))) := by rw [hσ44, sset_ne (sto_ne t0_42 ta4_42 (by simp))]; exact ta4_42
                  have f50 : σ44 (A 5) = some (eI g 3 60 (fun x9 => nI ((ar 5) x9))) := by rw [hσ44, sset_ne (sto_ne t0_42 ta5_42 (by simp))]; exact ta5_42
                  have f51 : σ44 (A 6) = some (eI g 3 60 (fun x9 => nI ((ar 6) x9))) := by rw [hσ44, sset_ne (sto_ne t0_42 ta6_42 (by simp))]; exact ta6_42
                  have f52 : σ44 (A 7) = some (eI g 0 3 (fun x9 => nI ((ar 7) x9))) := by rw [hσ44, sset_ne (sto_ne t0_42 ta7_42 (by simp))]; exact ta7_42
                  refine lv_aload_n F.x F.cd dX3_ends_103 rfl (lv_at hl 0 rfl) ?_
                  refine s_get F hW (ci := 7) (C := RX3) (T := TX3) (N := 18) (v := .int (iv 16)) (w44) rfl in_X3 16 (by decide) q2295 (fun _ h9 => h9) rfl dX3_ends_104 ?_
                  have tw53 : IsTw g σ44 m A (va_up iv 3 (nI (min u 7 + 1))) wd (va_up ar 2 (cpT (ar 1) (if u = 8 then shT (ar 2) 798 else ar 2) (114 * min u 7) 114)) rb := ⟨w44, tb0, f45, f46, f47, f48, f49, f50, f51, f52, tbb, tii⟩
                  have fm53 : Fm σ σ44 m A := by rw [hσ44]; exact (fmk).setM
                  subst hQ
                  exact s_reti (v := (iv 16)) F hW rfl (⟨fun h9 => absurd h9 (by omega), fun _ => ⟨rfl, tw53, fm53⟩⟩) ⟨(Nat.le_of_ble_eq_true rfl), (Nat.le_of_ble_eq_true rfl)⟩ dX3_ends_107
                · exact absurd c_64 (by omega)
              | succ nkj ih61 =>
                intro kj σk hknkj twk fmk H locs ls hW hl
                obtain ⟨t0_k41, -, ta0_k41, ta1_k41, ta2_k41, ta3_k41, ta4_k41, ta5_k41, ta6_k41, ta7_k41, -, -⟩ := id twk
                refine lv_iload_n F.x F.cd dX3_ends_61 rfl (lv_at hl 2 rfl) ?_
                refine lv_bipush (v := (nI 114)) F.x F.cd dX3_ends_62 (by decide) ?_
                refine n_icmp_ge (a := kj) (b := 114) (tgt := 93) F (by omega) (by omega) dX3_ends_64 (by decide) (fun c_64 => ?_) (fun c_64 => ?_)
                · exact absurd c_64 (by omega)
                · refine lv_aload_n F.x F.cd dX3_ends_67 rfl (lv_at hl 0 rfl) ?_
                  refine s_get F hW (ci := 7) (C := RX3) (T := TX3) (N := 18) (v := .ref (A 2)) (t0_k41) rfl in_X3 2 (by decide) q2281 (fun _ h9 => h9) rfl dX3_ends_68 ?_
                  refine lv_bipush (v := (nI 114)) F.x F.cd dX3_ends_71 (by decide) ?_
                  refine lv_aload_n F.x F.cd dX3_ends_73 rfl (lv_at hl 0 rfl) ?_
                  refine s_get F hW (ci := 7) (C := RX3) (T := TX3) (N := 18) (v := .int (nI (min u 7))) (t0_k41) rfl in_X3 3 (by decide) q2282 (fun _ h9 => h9) rfl dX3_ends_74 ?_
                  refine a_imul (v := (nI (114 * (min u 7)))) F (pk_mul _ _) dX3_ends_77 ?_
                  refine lv_iload_n F.x F.cd dX3_ends_78 rfl (lv_at hl 2 rfl) ?_
                  refine a_iadd (v := (nI (114 * (min u 7) + kj))) F (nI_add _ _) dX3_ends_79 ?_
                  refine lv_aload_n F.x F.cd dX3_ends_80 rfl (lv_at hl 0 rfl) ?_
                  refine s_get F hW (ci := 7) (C := RX3) (T := TX3) (N := 18) (v := .ref (A 1)) (t0_k41) rfl in_X3 1 (by decide) q2280 (fun _ h9 => h9) rfl dX3_ends_81 ?_
                  refine lv_iload_n F.x F.cd dX3_ends_84 rfl (lv_at hl 2 rfl) ?_
                  refine n_iald (i := kj) (n := 114) (f := (fun x9 => nI ((ar 1) x9))) (x := (nI ((ar 1) kj))) F hW (ta1_k41) (by omega) (by omega) (rfl) dX3_ends_85 ?_
                  refine n_iastN (i := 114 * (min u 7) + kj) F hW (ta2_k41) (tbb 2 (by decide)) (by omega) (by omega) dX3_ends_86 (fun H locs hW => ?_)
                  obtain ⟨σ54, hσ54⟩ : ∃ z, z = sset σk (A 2) (eI g 0 912 (fun x9 => nI ((va_up (cpT (ar 1) (if u = 8 then shT (ar 2) 798 else ar 2) (114 * min u 7) kj) (114 * (min u 7) + kj) ((ar 1) kj)) x9))) := ⟨_, rfl⟩
                  have hW : Hl g σ54 H locs := by rw [hσ54]; exact hW
                  have w54 : σ54 (A 2) = some (eI g 0 912 (fun x9 => nI ((va_up (cpT (ar 1) (if u = 8 then shT (ar 2) 798 else ar 2) (114 * min u 7) kj) (114 * (min u 7) + kj) ((ar 1) kj)) x9))) := by rw [hσ54]; exact sset_eq
                  have f55 : σ54 m = some (.inr (7, [.ref (A 0), .ref (A 1), .ref (A 2), .int (nI (min u 7)), .ref (A 3), .int (iv 5), .ref (A 4), .ref (A 5), .int (iv 8), .ref (A 6), .int (iv 10), .int (iv 11), .ref wd, .ref (A 7), .int (iv 14), .int (iv 15), .int (iv 16), .int (iv 17)])) := by rw [hσ54, sset_ne (sto_ne ta2_k41 t0_k41 (by simp))]; exact t0_k41
                  have f56 : σ54 (A 0) = some (eI g 0 114 (fun x9 => nI ((ar 0) x9))) := by rw [hσ54, sset_ne (fun q9 => absurd (tii 0 2 (by decide) (by decide) q9) (by decide))]; exact ta0_k41
                  have f57 : σ54 (A 1) = some (eI g 0 114 (fun x9 => nI ((ar 1) x9))) := by rw [hσ54, sset_ne (fun q9 => absurd (tii 1 2 (by decide) (by decide) q9) (by decide))]; exact ta1_k41
                  have f58 : σ54 (A 3) = some (eI g 0 114 (fun x9 => nI ((ar 3) x9))) := by rw [hσ54, sset_ne (fun q9 => absurd (tii 3 2 (by decide) (by decide) q9) (by decide))]; exact ta3_k41
                  have f59 : σ54 (A 4) = some (eI g 2 2048 (fun x9 => bI (rb x9))) := by rw [hσ54, sset_ne (fun q9 => absurd (tii 4 2 (by decide) (by decide) q9) (by decide))]; exact ta4_k41
                  have f60 : σ54 (A 5) = some (eI g 3 60 (fun x9 => nI ((ar 5) x9))) := by rw [hσ54, sset_ne (fun q9 => absurd (tii 5 2 (by decide) (by decide) q9) (by decide))]; exact ta5_k41
                  have f61 : σ54 (A 6) = some (eI g 3 60 (fun x9 => nI ((ar 6) x9))) := by rw [hσ54, sset_ne (fun q9 => absurd (tii 6 2 (by decide) (by decide) q9) (by decide))]; exact ta6_k41
                  have f62 : σ54 (A 7) = some (eI g 0 3 (fun x9 => nI ((ar 7) x9))) := by rw [hσ54, sset_ne (fun q9 => absurd (tii 7 2 (by decide) (by decide) q9) (by decide))]; exact ta7_k41
                  refine lv_iinc (k := 2) (v := (nI (kj + 1))) (lv' := [(2, .int (nI (kj + 1))), (0, .ref m), (1, .int (nI n))]) F.x F.cd dX3_ends_87 hl rfl (inc_nI kj 1) (by decide) rfl (fun ls hl => ?_)
                  refine lv_goto (tgt := 61) F.x F.cd dX3_ends_90 (by decide) ?_
                  have tw63 : IsTw g σ54 m A (va_up iv 3 (nI (min u 7))) wd (va_up ar 2 (va_up (cpT (ar 1) (if u = 8 then shT (ar 2) 798 else ar 2) (114 * min u 7) kj) (114 * (min u 7) + kj) ((ar 1) kj))) rb := ⟨f55, tb0, f56, f57, w54, f58, f59, f60, f61, f62, tbb, tii⟩
                  have fm63 : Fm σ σ54 m A := by rw [hσ54]; exact (fmk).setA 2 (by decide)
                  exact ih61 (kj + 1) σ54 (by omega) (by rw [← cpT_s]; exact tw63) (fm63) H locs ls hW (lv_sub hl [1, 2, 0] rfl)
            exact loop61 (114) 0 _ (by omega) (by rw [cpT_0]; exact tw_40) (fm39) H locs ls hW (lv_sub hl [1, 2, 0] rfl)
          · exact absurd c_25 (by omega)
        | succ nk ih21 =>
          intro k σk hknk twk fmk H locs ls hW hl
          obtain ⟨t0_k27, -, ta0_k27, ta1_k27, ta2_k27, ta3_k27, ta4_k27, ta5_k27, ta6_k27, ta7_k27, -, -⟩ := id twk
          refine lv_iload_n F.x F.cd dX3_ends_21 rfl (lv_at hl 2 rfl) ?_
          refine lv_sipush (v := (nI 798)) F.x F.cd dX3_ends_22 (by decide) ?_
          refine n_icmp_ge (a := k) (b := 798) (tgt := 49) F (by omega) (by omega) dX3_ends_25 (by decide) (fun c_25 => ?_) (fun c_25 => ?_)
          · exact absurd c_25 (by omega)
          · refine lv_aload_n F.x F.cd dX3_ends_28 rfl (lv_at hl 0 rfl) ?_
            refine s_get F hW (ci := 7) (C := RX3) (T := TX3) (N := 18) (v := .ref (A 2)) (t0_k27) rfl in_X3 2 (by decide) q2281 (fun _ h9 => h9) rfl dX3_ends_29 ?_
            refine lv_iload_n F.x F.cd dX3_ends_32 rfl (lv_at hl 2 rfl) ?_
            refine lv_aload_n F.x F.cd dX3_ends_33 rfl (lv_at hl 0 rfl) ?_
            refine s_get F hW (ci := 7) (C := RX3) (T := TX3) (N := 18) (v := .ref (A 2)) (t0_k27) rfl in_X3 2 (by decide) q2281 (fun _ h9 => h9) rfl dX3_ends_34 ?_
            refine lv_bipush (v := (nI 114)) F.x F.cd dX3_ends_37 (by decide) ?_
            refine lv_iload_n F.x F.cd dX3_ends_39 rfl (lv_at hl 2 rfl) ?_
            refine a_iadd (v := (nI (114 + k))) F (nI_add _ _) dX3_ends_40 ?_
            refine n_iald (i := 114 + k) (n := 912) (f := (fun x9 => nI ((shT (ar 2) k) x9))) (x := (nI ((shT (ar 2) k) (114 + k)))) F hW (ta2_k27) (by omega) (by omega) (rfl) dX3_ends_41 ?_
            refine n_iastN (i := k) F hW (ta2_k27) (tbb 2 (by decide)) (by omega) (by omega) dX3_ends_42 (fun H locs hW => ?_)
            obtain ⟨σ65, hσ65⟩ : ∃ z, z = sset σk (A 2) (eI g 0 912 (fun x9 => nI ((va_up (shT (ar 2) k) k ((shT (ar 2) k) (114 + k))) x9))) := ⟨_, rfl⟩
            have hW : Hl g σ65 H locs := by rw [hσ65]; exact hW
            have w65 : σ65 (A 2) = some (eI g 0 912 (fun x9 => nI ((va_up (shT (ar 2) k) k ((shT (ar 2) k) (114 + k))) x9))) := by rw [hσ65]; exact sset_eq
            have f66 : σ65 m = some (.inr (7, [.ref (A 0), .ref (A 1), .ref (A 2), .int (nI u), .ref (A 3), .int (iv 5), .ref (A 4), .ref (A 5), .int (iv 8), .ref (A 6), .int (iv 10), .int (iv 11), .ref wd, .ref (A 7), .int (iv 14), .int (iv 15), .int (iv 16), .int (iv 17)])) := by rw [hσ65, sset_ne (sto_ne ta2_k27 t0_k27 (by simp))]; exact t0_k27
            have f67 : σ65 (A 0) = some (eI g 0 114 (fun x9 => nI ((ar 0) x9))) := by rw [hσ65, sset_ne (fun q9 => absurd (tii 0 2 (by decide) (by decide) q9) (by decide))]; exact ta0_k27
            have f68 : σ65 (A 1) = some (eI g 0 114 (fun x9 => nI ((ar 1) x9))) := by rw [hσ65, sset_ne (fun q9 => absurd (tii 1 2 (by decide) (by decide) q9) (by decide))]; exact ta1_k27
            have f69 : σ65 (A 3) = some (eI g 0 114 (fun x9 => nI ((ar 3) x9))) := by rw [hσ65, sset_ne (fun q9 => absurd (tii 3 2 (by decide) (by decide) q9) (by decide))]; exact ta3_k27
            have f70 : σ65 (A 4) = some (eI g 2 2048 (fun x9 => bI (rb x9))) := by rw [hσ65, sset_ne (fun q9 => absurd (tii 4 2 (by decide) (by decide) q9) (by decide))]; exact ta4_k27
            have f71 : σ65 (A 5) = some (eI g 3 60 (fun x9 => nI ((ar 5) x9))) := by rw [hσ65, sset_ne (fun q9 => absurd (tii 5 2 (by decide) (by decide) q9) (by decide))]; exact ta5_k27
            have f72 : σ65 (A 6) = some (eI g 3 60 (fun x9 => nI ((ar 6) x9))) := by rw [hσ65, sset_ne (fun q9 => absurd (tii 6 2 (by decide) (by decide) q9) (by decide))]; exact ta6_k27
            have f73 : σ65 (A 7) = some (eI g 0 3 (fun x9 => nI ((ar 7) x9))) := by rw [hσ65, sset_ne (fun q9 => absurd (tii 7 2 (by decide) (by decide) q9) (by decide))]; exact ta7_k27
            refine lv_iinc (k := 2) (v := (nI (k + 1))) (lv' := [(2, .int (nI (k + 1))), (0, .ref m), (1, .int (nI n))]) F.x F.cd dX3_ends_43 hl rfl (inc_nI k 1) (by decide) rfl (fun ls hl => ?_)
            refine lv_goto (tgt := 21) F.x F.cd dX3_ends_46 (by decide) ?_
            have tw74 : IsTw g σ65 m A (va_up iv 3 (nI u)) wd (va_up ar 2 (va_up (shT (ar 2) k) k ((shT (ar 2) k) (114 + k)))) rb := ⟨f66, tb0, f67, f68, w65, f69, f70, f71, f72, f73, tbb, tii⟩
            have fm74 : Fm σ σ65 m A := by rw [hσ65]; exact (fmk).setA 2 (by decide)
            exact ih21 (k + 1) σ65 (by omega) (by rw [← shT_s]; exact tw74) (fm74) H locs ls hW (lv_sub hl [1, 2, 0] rfl)
      exact loop21 (798) 0 _ (by omega) (by rw [shT_0]; exact tw_1) (Fm.refl) H locs ls hW (lv_sub hl [1, 2, 0] rfl)
  · refine lv_aload_n F.x F.cd dX3_ends_4 rfl (lv_at hl 0 rfl) ?_
    refine lv_iload_n F.x F.cd dX3_ends_5 rfl (lv_at hl 1 rfl) ?_
    refine s_callV (As := [.int (nI n)]) (rest := []) (C := RX3) (T := TX3) (N := 18) (n := 1) F hW (k_X3_raises g l σ m A _ _ _ _ (nI n) hw ) (t0) rfl q2362 q2364 qs37 q79 q2365 rfl (by decide +kernel) rfl ⟨⟨Nat.le_of_ble_eq_true rfl, Nat.le_of_ble_eq_true rfl⟩, ⟨(Nat.le_of_ble_eq_true rfl), (Nat.le_of_ble_eq_true rfl)⟩⟩ (Nat.le_of_ble_eq_true rfl) hl.1 rfl dX3_ends_6 cX_no (fun r76 σ76 H locs hp76 hW => ?_)
    obtain ⟨rfl, tv76, fv76⟩ := hp76
    refine W.eq (g2 := F0 m_ 9 ls (.int (nI 0) :: [])) rfl ?_
    obtain ⟨t0_77, -, ta0_77, ta1_77, ta2_77, ta3_77, ta4_77, ta5_77, ta6_77, ta7_77, -, -⟩ := id tv76
    have fm_77 : Fm σ σ76 m A := (Fm.refl).trans fv76
    have tw_77 : IsTw g σ76 m A (va_up iv 17 (nI n)) wd ar rb := ⟨t0_77, tb0, ta0_77, ta1_77, ta2_77, ta3_77, ta4_77, ta5_77, ta6_77, ta7_77, tbb, tii⟩
    subst hQ
    exact s_reti (v := (nI 0)) F hW rfl (⟨fun _ => ⟨rfl, tw_77, fm_77⟩, fun h9 => absurd h9 (by omega)⟩) ⟨(Nat.le_of_ble_eq_true rfl), (Nat.le_of_ble_eq_true rfl)⟩ dX3_ends_9
set_option maxHeartbeats 4000000 in
theorem k_X3_isTank (g : Gh) (l : Launch) (σ : Sto) (m : Nat) (A : Nat → Nat) (iv : Nat → Int32) (wd : Nat) (ar : Nat → Nat → Nat) (rb : Nat → Bool) (x : Int32) (hw : IsTw g σ m A iv wd ar rb)  : Ct g l yX3_isTank cX3_isTank 2 (some .boolean) ({ frames := 1, cells := 0, slots := 0, locals := 22 } : Room) [.ref m, .int x] σ (fun r σ' => r = some (.int (bI (inN x (ar 0 0)))) ∧ σ' = σ) (nox) := by
  refine Ct.body (by decide) (Nat.le_of_ble_eq_true rfl) ?_
  intro p_ e_ s_ m_ args_ below_ meth_ c_ ls H locs Q F hW hl hQ
  have hl : lv_has ls 2 [(0, .ref m), (1, .int x)] := hl
  obtain ⟨t0, tb0, ta0, ta1, ta2, ta3, ta4, ta5, ta6, ta7, tbb, tii⟩ := id hw
  refine lv_iload_n F.x F.cd dX3_isTank_0 rfl (lv_at hl 1 rfl) ?_
  refine lv_iconst (v := (nI 0)) F.x F.cd dX3_isTank_1 (by decide) ?_
  refine lv_aload_n F.x F.cd dX3_isTank_2 rfl (lv_at hl 0 rfl) ?_
  refine s_get F hW (ci := 7) (C := RX3) (T := TX3) (N := 18) (v := .ref (A 0)) (t0) rfl in_X3 0 (by decide) q2279 (fun _ h9 => h9) rfl dX3_isTank_3 ?_
  refine lv_iconst (v := (nI 0)) F.x F.cd dX3_isTank_6 (by decide) ?_
  refine n_iald (i := 0) (n := 114) (f := (fun x9 => nI ((ar 0) x9))) (x := (nI ((ar 0) 0))) F hW (ta0) (by omega) (by omega) (rfl) dX3_isTank_7 ?_
  refine lv_iconst (v := (nI 1)) F.x F.cd dX3_isTank_8 (by decide) ?_
  refine a_isub (v := ((nI ((ar 0) 0)) - nI 1)) F (rfl) dX3_isTank_9 ?_
  refine s_callS (As := [.int x, .int (nI 0), .int ((nI ((ar 0) 0)) - nI 1)]) (rest := []) (n := 3) F hW (k_X3_in g l σ x (nI 0) ((nI ((ar 0) 0)) - nI 1)) q2351 q2352 q79 q2353 (by decide +kernel) rfl ⟨⟨Nat.le_of_ble_eq_true rfl, Nat.le_of_ble_eq_true rfl⟩, ⟨(Nat.le_of_ble_eq_true rfl), (Nat.le_of_ble_eq_true rfl)⟩⟩ (Nat.le_of_ble_eq_true rfl) hl.1 rfl dX3_isTank_10 cX_no (fun r1 σ1 H locs hp1 hW => ?_)
  obtain ⟨rfl, hs1⟩ := hp1
  rw [hs1] at hW
  refine W.eq (g2 := F0 m_ 13 ls (.int (bI (btw x (nI 0) ((nI ((ar 0) 0)) - nI 1))) :: [])) rfl ?_
  subst hQ
  exact s_reti (v := (bI (btw x (nI 0) ((nI ((ar 0) 0)) - nI 1)))) F hW (nar_bI _) (⟨rfl, rfl⟩) ⟨(Nat.le_of_ble_eq_true rfl), (Nat.le_of_ble_eq_true rfl)⟩ dX3_isTank_13
set_option maxHeartbeats 4000000 in
theorem k_X3_isPipe (g : Gh) (l : Launch) (σ : Sto) (m : Nat) (A : Nat → Nat) (iv : Nat → Int32) (wd : Nat) (ar : Nat → Nat → Nat) (rb : Nat → Bool) (x : Int32) (hw : IsTw g σ m A iv wd ar rb)  : Ct g l yX3_isPipe cX3_isPipe 2 (some .boolean) ({ frames := 1, cells := 0, slots := 0, locals := 22 } : Room) [.ref m, .int x] σ (fun r σ' => r = some (.int (bI (inN x (ar 0 1)))) ∧ σ' = σ) (nox) := by
  refine Ct.body (by decide) (Nat.le_of_ble_eq_true rfl) ?_
  intro p_ e_ s_ m_ args_ below_ meth_ c_ ls H locs Q F hW hl hQ
  have hl : lv_has ls 2 [(0, .ref m), (1, .int x)] := hl
  obtain ⟨t0, tb0, ta0, ta1, ta2, ta3, ta4, ta5, ta6, ta7, tbb, tii⟩ := id hw
  refine lv_iload_n F.x F.cd dX3_isPipe_0 rfl (lv_at hl 1 rfl) ?_
  refine lv_iconst (v := (nI 0)) F.x F.cd dX3_isPipe_1 (by decide) ?_
  refine lv_aload_n F.x F.cd dX3_isPipe_2 rfl (lv_at hl 0 rfl) ?_
  refine s_get F hW (ci := 7) (C := RX3) (T := TX3) (N := 18) (v := .ref (A 0)) (t0) rfl in_X3 0 (by decide) q2279 (fun _ h9 => h9) rfl dX3_isPipe_3 ?_
  refine lv_iconst (v := (nI 1)) F.x F.cd dX3_isPipe_6 (by decide) ?_
  refine n_iald (i := 1) (n := 114) (f := (fun x9 => nI ((ar 0) x9))) (x := (nI ((ar 0) 1))) F hW (ta0) (by omega) (by omega) (rfl) dX3_isPipe_7 ?_
  refine lv_iconst (v := (nI 1)) F.x F.cd dX3_isPipe_8 (by decide) ?_
  refine a_isub (v := ((nI ((ar 0) 1)) - nI 1)) F (rfl) dX3_isPipe_9 ?_
  refine s_callS (As := [.int x, .int (nI 0), .int ((nI ((ar 0) 1)) - nI 1)]) (rest := []) (n := 3) F hW (k_X3_in g l σ x (nI 0) ((nI ((ar 0) 1)) - nI 1)) q2351 q2352 q79 q2353 (by decide +kernel) rfl ⟨⟨Nat.le_of_ble_eq_true rfl, Nat.le_of_ble_eq_true rfl⟩, ⟨(Nat.le_of_ble_eq_true rfl), (Nat.le_of_ble_eq_true rfl)⟩⟩ (Nat.le_of_ble_eq_true rfl) hl.1 rfl dX3_isPipe_10 cX_no (fun r1 σ1 H locs hp1 hW => ?_)
  obtain ⟨rfl, hs1⟩ := hp1
  rw [hs1] at hW
  refine W.eq (g2 := F0 m_ 13 ls (.int (bI (btw x (nI 0) ((nI ((ar 0) 1)) - nI 1))) :: [])) rfl ?_
  subst hQ
  exact s_reti (v := (bI (btw x (nI 0) ((nI ((ar 0) 1)) - nI 1)))) F hW (nar_bI _) (⟨rfl, rfl⟩) ⟨(Nat.le_of_ble_eq_true rfl), (Nat.le_of_ble_eq_true rfl)⟩ dX3_isPipe_13
set_option maxHeartbeats 4000000 in
theorem k_X3_tank (g : Gh) (l : Launch) (σ : Sto) (m : Nat) (A : Nat → Nat) (iv : Nat → Int32) (wd : Nat) (ar : Nat → Nat → Nat) (rb : Nat → Bool) (t x : Nat) (hw : IsTw g σ m A iv wd ar rb) (ht : t < 8) (hx : x < 3) : Ct g l yX3_tank cX3_tank 3 (some .int) ({ frames := 0, cells := 0, slots := 0, locals := 0 } : Room) [.ref m, .int (nI t), .int (nI x)] σ (fun r σ' => r = some (.int (nI (ar 0 (6 + 3 * t + x)))) ∧ σ' = σ) (nox) := by
  refine Ct.body (by decide) (Nat.le_of_ble_eq_true rfl) ?_
  intro p_ e_ s_ m_ args_ below_ meth_ c_ ls H locs Q F hW hl hQ
  have hl : lv_has ls 3 [(0, .ref m), (1, .int (nI t)), (2, .int (nI x))] := hl
  obtain ⟨t0, tb0, ta0, ta1, ta2, ta3, ta4, ta5, ta6, ta7, tbb, tii⟩ := id hw
  refine lv_aload_n F.x F.cd dX3_tank_0 rfl (lv_at hl 0 rfl) ?_
  refine s_get F hW (ci := 7) (C := RX3) (T := TX3) (N := 18) (v := .ref (A 0)) (t0) rfl in_X3 0 (by decide) q2279 (fun _ h9 => h9) rfl dX3_tank_1 ?_
  refine lv_bipush (v := (nI 6)) F.x F.cd dX3_tank_4 (by decide) ?_
  refine lv_iconst (v := (nI 3)) F.x F.cd dX3_tank_6 (by decide) ?_
  refine lv_iload_n F.x F.cd dX3_tank_7 rfl (lv_at hl 1 rfl) ?_
  refine a_imul (v := (nI (3 * t))) F (pk_mul _ _) dX3_tank_8 ?_
  refine a_iadd (v := (nI (6 + (3 * t)))) F (nI_add _ _) dX3_tank_9 ?_
  refine lv_iload_n F.x F.cd dX3_tank_10 rfl (lv_at hl 2 rfl) ?_
  refine a_iadd (v := (nI (6 + (3 * t) + x))) F (nI_add _ _) dX3_tank_11 ?_
  refine n_iald (i := 6 + (3 * t) + x) (n := 114) (f := (fun x9 => nI ((ar 0) x9))) (x := (nI ((ar 0) (6 + (3 * t) + x)))) F hW (ta0) (by omega) (by omega) (rfl) dX3_tank_12 ?_
  subst hQ
  exact s_reti (v := (nI ((ar 0) (6 + (3 * t) + x)))) F hW rfl (⟨rfl, rfl⟩) ⟨(Nat.le_of_ble_eq_true rfl), (Nat.le_of_ble_eq_true rfl)⟩ dX3_tank_13
set_option maxHeartbeats 4000000 in
theorem k_X3_pipe (g : Gh) (l : Launch) (σ : Sto) (m : Nat) (A : Nat → Nat) (iv : Nat → Int32) (wd : Nat) (ar : Nat → Nat → Nat) (rb : Nat → Bool) (q x : Nat) (hw : IsTw g σ m A iv wd ar rb) (hq : q < 12) (hx : x < 7) : Ct g l yX3_pipe cX3_pipe 3 (some .int) ({ frames := 0, cells := 0, slots := 0, locals := 0 } : Room) [.ref m, .int (nI q), .int (nI x)] σ (fun r σ' => r = some (.int (nI (ar 0 (30 + 7 * q + x)))) ∧ σ' = σ) (nox) := by
  refine Ct.body (by decide) (Nat.le_of_ble_eq_true rfl) ?_
  intro p_ e_ s_ m_ args_ below_ meth_ c_ ls H locs Q F hW hl hQ
  have hl : lv_has ls 3 [(0, .ref m), (1, .int (nI q)), (2, .int (nI x))] := hl
  obtain ⟨t0, tb0, ta0, ta1, ta2, ta3, ta4, ta5, ta6, ta7, tbb, tii⟩ := id hw
  refine lv_aload_n F.x F.cd dX3_pipe_0 rfl (lv_at hl 0 rfl) ?_
  refine s_get F hW (ci := 7) (C := RX3) (T := TX3) (N := 18) (v := .ref (A 0)) (t0) rfl in_X3 0 (by decide) q2279 (fun _ h9 => h9) rfl dX3_pipe_1 ?_
  refine lv_bipush (v := (nI 30)) F.x F.cd dX3_pipe_4 (by decide) ?_
  refine lv_bipush (v := (nI 7)) F.x F.cd dX3_pipe_6 (by decide) ?_
  refine lv_iload_n F.x F.cd dX3_pipe_8 rfl (lv_at hl 1 rfl) ?_
  refine a_imul (v := (nI (7 * q))) F (pk_mul _ _) dX3_pipe_9 ?_
  refine a_iadd (v := (nI (30 + (7 * q)))) F (nI_add _ _) dX3_pipe_10 ?_
  refine lv_iload_n F.x F.cd dX3_pipe_11 rfl (lv_at hl 2 rfl) ?_
  refine a_iadd (v := (nI (30 + (7 * q) + x))) F (nI_add _ _) dX3_pipe_12 ?_
  refine n_iald (i := 30 + (7 * q) + x) (n := 114) (f := (fun x9 => nI ((ar 0) x9))) (x := (nI ((ar 0) (30 + (7 * q) + x)))) F hW (ta0) (by omega) (by omega) (rfl) dX3_pipe_13 ?_
  subst hQ
  exact s_reti (v := (nI ((ar 0) (30 + (7 * q) + x)))) F hW rfl (⟨rfl, rfl⟩) ⟨(Nat.le_of_ble_eq_true rfl), (Nat.le_of_ble_eq_true rfl)⟩ dX3_pipe_14
set_option maxHeartbeats 4000000 in
theorem k_X3_goes (g : Gh) (l : Launch) (σ : Sto) (m : Nat) (A : Nat → Nat) (iv : Nat → Int32) (wd : Nat) (ar : Nat → Nat → Nat) (rb : Nat → Bool) (q : Nat) (hw : IsTw g σ m A iv wd ar rb) (hI : Inv (ar 0)) (hq : q < ar 0 1) : Ct g l yX3_goes cX3_goes 2 (some .boolean) ({ frames := 1, cells := 0, slots := 0, locals := 22 } : Room) [.ref m, .int (nI q)] σ (fun r σ' => r = some (.int (bI (opv (ar 0) q))) ∧ σ' = σ) (nox) := by
  refine Ct.body (by decide) (Nat.le_of_ble_eq_true rfl) ?_
  intro p_ e_ s_ m_ args_ below_ meth_ c_ ls H locs Q F hW hl hQ
  have hl : lv_has ls 2 [(0, .ref m), (1, .int (nI q))] := hl
  obtain ⟨t0, tb0, ta0, ta1, ta2, ta3, ta4, ta5, ta6, ta7, tbb, tii⟩ := id hw
  have hv0 := hI.1
  have hv1 := hI.2.1
  obtain ⟨hqa, hqb, hqab, hqm, hqv, hqr, hqd⟩ := hI.pp hq
  refine lv_aload_n F.x F.cd dX3_goes_0 rfl (lv_at hl 0 rfl) ?_
  refine lv_iload_n F.x F.cd dX3_goes_1 rfl (lv_at hl 1 rfl) ?_
  refine lv_iconst (v := (nI 3)) F.x F.cd dX3_goes_2 (by decide) ?_
  refine s_callV (As := [.int (nI q), .int (nI 3)]) (rest := []) (C := RX3) (T := TX3) (N := 18) (n := 2) F hW (k_X3_pipe g l σ m A _ _ _ _ q 3 hw (by omega) (by omega)) (t0) rfl q2406 q2408 qs44 q79 q2409 rfl (by decide +kernel) rfl ⟨⟨Nat.le_of_ble_eq_true rfl, Nat.le_of_ble_eq_true rfl⟩, ⟨(Nat.le_of_ble_eq_true rfl), (Nat.le_of_ble_eq_true rfl)⟩⟩ (Nat.le_of_ble_eq_true rfl) hl.1 rfl dX3_goes_3 cX_no (fun r1 σ1 H locs hp1 hW => ?_)
  obtain ⟨rfl, hs1⟩ := hp1
  rw [hs1] at hW
  refine W.eq (g2 := F0 m_ 6 ls (.int (nI (pV (ar 0) q)) :: [])) rfl ?_
  refine n_if_le (a := pV (ar 0) q) (tgt := 24) F (by omega) dX3_goes_6 (by decide) (fun c_6 => ?_) (fun c_6 => ?_)
  · refine lv_iconst (v := (nI 0)) F.x F.cd dX3_goes_24 (by decide) ?_
    subst hQ
    exact s_reti (v := (nI 0)) F hW (by decide) (⟨by rw [show opv (ar 0) q = false by (simp [opv, opn]; omega)]; rfl, rfl⟩) ⟨(Nat.le_of_ble_eq_true rfl), (Nat.le_of_ble_eq_true rfl)⟩ dX3_goes_25
  · refine lv_aload_n F.x F.cd dX3_goes_9 rfl (lv_at hl 0 rfl) ?_
    refine lv_iload_n F.x F.cd dX3_goes_10 rfl (lv_at hl 1 rfl) ?_
    refine lv_iconst (v := (nI 5)) F.x F.cd dX3_goes_11 (by decide) ?_
    refine s_callV (As := [.int (nI q), .int (nI 5)]) (rest := []) (C := RX3) (T := TX3) (N := 18) (n := 2) F hW (k_X3_pipe g l σ m A _ _ _ _ q 5 hw (by omega) (by omega)) (t0) rfl q2406 q2408 qs44 q79 q2409 rfl (by decide +kernel) rfl ⟨⟨Nat.le_of_ble_eq_true rfl, Nat.le_of_ble_eq_true rfl⟩, ⟨(Nat.le_of_ble_eq_true rfl), (Nat.le_of_ble_eq_true rfl)⟩⟩ (Nat.le_of_ble_eq_true rfl) hl.1 rfl dX3_goes_12 cX_no (fun r2 σ2 H locs hp2 hW => ?_)
    obtain ⟨rfl, hs2⟩ := hp2
    rw [hs2] at hW
    refine W.eq (g2 := F0 m_ 15 ls (.int (nI (pD (ar 0) q)) :: [])) rfl ?_
    refine lv_bipush (v := (nI 20)) F.x F.cd dX3_goes_15 (by decide) ?_
    refine n_icmp_ge (a := pD (ar 0) q) (b := 20) (tgt := 24) F (by omega) (by omega) dX3_goes_17 (by decide) (fun c_17 => ?_) (fun c_17 => ?_)
    · refine lv_iconst (v := (nI 0)) F.x F.cd dX3_goes_24 (by decide) ?_
      subst hQ
      exact s_reti (v := (nI 0)) F hW (by decide) (⟨by rw [show opv (ar 0) q = false by (simp [opv, opn]; omega)]; rfl, rfl⟩) ⟨(Nat.le_of_ble_eq_true rfl), (Nat.le_of_ble_eq_true rfl)⟩ dX3_goes_25
    · refine lv_iconst (v := (nI 1)) F.x F.cd dX3_goes_20 (by decide) ?_
      refine lv_goto (tgt := 25) F.x F.cd dX3_goes_21 (by decide) ?_
      subst hQ
      exact s_reti (v := (nI 1)) F hW (by decide) (⟨by rw [show opv (ar 0) q = true by (simp [opv, opn]; omega)]; rfl, rfl⟩) ⟨(Nat.le_of_ble_eq_true rfl), (Nat.le_of_ble_eq_true rfl)⟩ dX3_goes_25
