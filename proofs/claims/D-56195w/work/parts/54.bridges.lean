/-! ===== bridges ===== -/
set_option maxRecDepth 100000
set_option maxHeartbeats 4000000 in
theorem k_X10_init (g : Gh) (l : Launch) (σ : Sto) (L v : Nat → Nat) (h : Nat) (hWk : IsWorks g σ L v) (hI : Inv v) (e0 : σ h = some (.inr (13, [.null, .null, .int (nI 0), .int (nI 0), .null]))) (b0 : gB g ≤ h) : Ct g l yX10_init cX10_init 2 none ({ frames := 1, cells := 2, slots := 16, locals := 24 } : Room) [.ref h, .ref (L 0)] σ (fun r σ' => r = none ∧ ∃ na la, σ na = none ∧ σ la = none ∧ gB g ≤ na ∧ gB g ≤ la ∧ na ≠ la ∧ σ' h = some (.inr (13, [.ref na, .ref la, .int (nI 1), .int (nI 0), .ref (L 0)])) ∧ σ' na = some (eI g 0 (v 0) (fun x9 => nI ((fun _ => 0) x9))) ∧ σ' la = some (eI g 0 (v 0) (fun x9 => nI ((fun _ => 0) x9))) ∧ Ex1 σ σ' h) (nox) := by
  refine Ct.body (by decide) (Nat.le_of_ble_eq_true rfl) ?_
  intro p_ e_ s_ m_ args_ below_ meth_ c_ ls H locs Q F hW hl hQ
  have hl : lv_has ls 2 [(0, .ref h), (1, .ref (L 0))] := hl
  have hT := hWk.2.2.1
  have hP := hWk.2.2.2.1
  obtain ⟨mcT, nT, fT, eT, bT, -⟩ := id hT
  obtain ⟨mcP, nP, fP, eP, bP, -⟩ := id hP
  have hv0 := hI.1
  have hv1 := hI.2.1
  refine lv_aload_n F.x F.cd dX10_init_0 rfl (lv_at hl 0 rfl) ?_
  refine lv_aload_n F.x F.cd dX10_init_1 rfl (lv_at hl 1 rfl) ?_
  refine s_putF F hW (ci := 13) (C := RX10) (T := TX10) (N := 5) (v := .ref (L 0)) (ty := (.object "FilterWaterworks$Works")) (e0) (b0) rfl in_X10 tyX10_ok nmX10 4 (by decide) q722 (fun _ h9 => h9) rfl rfl (by decide +kernel) rfl rfl (Nat.le_of_ble_eq_true rfl) dX10_init_2 (fun H locs hW => ?_)
  obtain ⟨σ2, hσ2⟩ : ∃ z, z = sset σ h (.inr (13, [.null, .null, .int (nI 0), .int (nI 0), .ref (L 0)])) := ⟨_, rfl⟩
  have hW : Hl g σ2 H locs := by rw [hσ2]; exact hW
  have w2 : σ2 h = some (.inr (13, [.null, .null, .int (nI 0), .int (nI 0), .ref (L 0)])) := by rw [hσ2]; exact sset_eq
  have f3 : σ2 (L 0) = some (.inr (1, [.ref (L 1), .ref (L 2), .int (nI (v 2)), .int (nI (v 3)), .int (nI (v 4)), .int (nI (v 5))])) := by rw [hσ2, sset_ne (sto_ne e0 hWk.1 (by simp))]; exact hWk.1
  have f4 : σ2 (L 1) = some (.inr (2, [.int mcT, .ref (L 3), .int (nI (v 0))])) := by rw [hσ2, sset_ne (sto_ne e0 eT (by simp))]; exact eT
  have j5 := IsList.setO (e := .inr (13, [.null, .null, .int (nI 0), .int (nI 0), .ref (L 0)])) (hT) (e0) (by decide)
  rw [← hσ2] at j5
  have f6 : σ2 (L 2) = some (.inr (2, [.int mcP, .ref (L 4), .int (nI (v 1))])) := by rw [hσ2, sset_ne (sto_ne e0 eP (by simp))]; exact eP
  have j7 := IsList.setO (e := .inr (13, [.null, .null, .int (nI 0), .int (nI 0), .ref (L 0)])) (hP) (e0) (by decide)
  rw [← hσ2] at j7
  have hx1 : Ex1 σ σ2 h := by rw [hσ2]; exact Ex1.refl.self
  have hWi : IsWorks g σ2 L v := by rw [hσ2]; exact hWk.setO e0 (by decide) (by decide) (by decide) (by decide)
  have hT_i := hWi.2.2.1
  have hP_i := hWi.2.2.2.1
  obtain ⟨mcT_i, nT_i, fT_i, eT_i, bT_i, -⟩ := id hT_i
  obtain ⟨mcP_i, nP_i, fP_i, eP_i, bP_i, -⟩ := id hP_i
  have hv0_i := hI.1
  have hv1_i := hI.2.1
  refine lv_aload_n F.x F.cd dX10_init_5 rfl (lv_at hl 0 rfl) ?_
  refine W.objInit F.x F.cd F.ow (F.ts _ q713) (F.ts _ q123) (F.ts _ q124) rfl (by rw [F.ml]; exact hl.1) rfl dX10_init_6 (Nat.le_of_ble_eq_true rfl) (Nat.le_of_ble_eq_true rfl) ?_
  refine W.eq (g2 := F0 m_ 9 ls ([])) rfl ?_
  refine lv_aload_n F.x F.cd dX10_init_9 rfl (lv_at hl 0 rfl) ?_
  refine lv_aload_n F.x F.cd dX10_init_10 rfl (lv_at hl 0 rfl) ?_
  refine s_get F hW (ci := 13) (C := RX10) (T := TX10) (N := 5) (v := .ref (L 0)) (w2) rfl in_X10 4 (by decide) q722 (fun _ h9 => h9) rfl dX10_init_11 ?_
  refine s_getN F hW (ci := 1) (C := RX2) (T := TX2) (N := 6) (v := .ref (L 1)) (hWi.1) rfl in_X2 0 (by decide) q160 (fun _ h9 => h9) rfl dX10_init_14 ?_
  refine s_callF (As := []) (rest := [.ref h]) (C := RJ2) (T := TJ2) (N := 3) (n := 0) F hW (k_J2_size g l σ2 _ _ _ _ hT_i) (eT_i) rfl (List.mem_of_getElem? (i := 0) rfl) q715 q272 q274 q72 q276 (by decide +kernel) rfl ⟨⟨Nat.le_of_ble_eq_true rfl, Nat.le_of_ble_eq_true rfl⟩, ⟨(Nat.le_of_ble_eq_true rfl), (Nat.le_of_ble_eq_true rfl)⟩⟩ (Nat.le_of_ble_eq_true rfl) hl.1 rfl dX10_init_17 cX_no (fun r8 σ8 H locs hp8 hW => ?_)
  obtain ⟨rfl, hs8⟩ := hp8
  rw [hs8] at hW
  refine W.eq (g2 := F0 m_ 22 ls (.int (nI (v 0)) :: .ref h :: [])) rfl ?_
  refine s_newa F hW 0 (N := v 0) (atype := .int) (ty := .int) rfl rfl rfl q699 (v 0, .inl (fun _ => 0)) rfl (nI_pos (by omega)) (nI_clamp (by omega)) (by show _ * 4 ≤ _; omega) (Nat.le_of_ble_eq_true rfl) (Nat.le_trans (m := 8) (by show 0 + v 0 ≤ _; omega) (Nat.le_of_ble_eq_true rfl)) dX10_init_22 (fun q9_ H hb_q9_ hn_q9_ hW => ?_)
  refine W.widen (k := 1) (n := 8) (Nat.le_of_ble_eq_true rfl) (by show 0 + v 0 ≤ _; omega) ?_
  obtain ⟨σ10, hσ10⟩ : ∃ z, z = sset σ2 q9_ (eI g 0 (v 0) (fun x9 => nI ((fun _ => 0) x9))) := ⟨_, rfl⟩
  have hW : Hl g σ10 H locs := by rw [hσ10]; exact hW
  have w10 : σ10 q9_ = some (eI g 0 (v 0) (fun x9 => nI ((fun _ => 0) x9))) := by rw [hσ10]; exact sset_eq
  have f11 : σ10 (L 0) = some (.inr (1, [.ref (L 1), .ref (L 2), .int (nI (v 2)), .int (nI (v 3)), .int (nI (v 4)), .int (nI (v 5))])) := by rw [hσ10, sset_ne (sto_ne0 hn_q9_ hWi.1)]; exact hWi.1
  have f12 : σ10 (L 1) = some (.inr (2, [.int mcT_i, .ref (L 3), .int (nI (v 0))])) := by rw [hσ10, sset_ne (sto_ne0 hn_q9_ eT_i)]; exact eT_i
  have j13 := IsList.new (e := eI g 0 (v 0) (fun x9 => nI ((fun _ => 0) x9))) (hT_i) (hn_q9_)
  rw [← hσ10] at j13
  have f14 : σ10 (L 2) = some (.inr (2, [.int mcP_i, .ref (L 4), .int (nI (v 1))])) := by rw [hσ10, sset_ne (sto_ne0 hn_q9_ eP_i)]; exact eP_i
  have j15 := IsList.new (e := eI g 0 (v 0) (fun x9 => nI ((fun _ => 0) x9))) (hP_i) (hn_q9_)
  rw [← hσ10] at j15
  have f16 : σ10 h = some (.inr (13, [.null, .null, .int (nI 0), .int (nI 0), .ref (L 0)])) := by rw [hσ10, sset_ne (sto_ne0 hn_q9_ w2)]; exact w2
  have hn1 : σ q9_ = none := hx1.none hn_q9_ e0 w2
  have hx2 : Ex1 σ σ10 h := by rw [hσ10]; exact hx1.new hn1
  refine s_putF F hW (ci := 13) (C := RX10) (T := TX10) (N := 5) (v := .ref q9_) (ty := (.array .int)) (f16) (b0) rfl in_X10 tyX10_ok nmX10 0 (by decide) q716 (fun _ h9 => h9) rfl rfl (by decide +kernel) rfl rfl (Nat.le_of_ble_eq_true rfl) dX10_init_24 (fun H locs hW => ?_)
  obtain ⟨σ18, hσ18⟩ : ∃ z, z = sset σ10 h (.inr (13, [.ref q9_, .null, .int (nI 0), .int (nI 0), .ref (L 0)])) := ⟨_, rfl⟩
  have hW : Hl g σ18 H locs := by rw [hσ18]; exact hW
  have w18 : σ18 h = some (.inr (13, [.ref q9_, .null, .int (nI 0), .int (nI 0), .ref (L 0)])) := by rw [hσ18]; exact sset_eq
  have f19 : σ18 (L 0) = some (.inr (1, [.ref (L 1), .ref (L 2), .int (nI (v 2)), .int (nI (v 3)), .int (nI (v 4)), .int (nI (v 5))])) := by rw [hσ18, sset_ne (sto_ne f16 f11 (by simp))]; exact f11
  have f20 : σ18 (L 1) = some (.inr (2, [.int mcT_i, .ref (L 3), .int (nI (v 0))])) := by rw [hσ18, sset_ne (sto_ne f16 f12 (by simp))]; exact f12
  have j21 := IsList.setO (e := .inr (13, [.ref q9_, .null, .int (nI 0), .int (nI 0), .ref (L 0)])) (j13) (f16) (by decide)
  rw [← hσ18] at j21
  have f22 : σ18 (L 2) = some (.inr (2, [.int mcP_i, .ref (L 4), .int (nI (v 1))])) := by rw [hσ18, sset_ne (sto_ne f16 f14 (by simp))]; exact f14
  have j23 := IsList.setO (e := .inr (13, [.ref q9_, .null, .int (nI 0), .int (nI 0), .ref (L 0)])) (j15) (f16) (by decide)
  rw [← hσ18] at j23
  have f24 : σ18 q9_ = some (eI g 0 (v 0) (fun x9 => nI ((fun _ => 0) x9))) := by rw [hσ18, sset_ne (Ne.symm (sto_ne0 hn_q9_ w2))]; exact w10
  have hx3 : Ex1 σ σ18 h := by rw [hσ18]; exact hx2.self
  have hWi2 : IsWorks g σ18 L v := by rw [hσ18]; exact (by rw [hσ10]; exact hWi.new hn_q9_ : IsWorks g σ10 L v).setO f16 (by decide) (by decide) (by decide) (by decide)
  have hT_j := hWi2.2.2.1
  have hP_j := hWi2.2.2.2.1
  obtain ⟨mcT_j, nT_j, fT_j, eT_j, bT_j, -⟩ := id hT_j
  obtain ⟨mcP_j, nP_j, fP_j, eP_j, bP_j, -⟩ := id hP_j
  have hv0_j := hI.1
  have hv1_j := hI.2.1
  refine lv_aload_n F.x F.cd dX10_init_27 rfl (lv_at hl 0 rfl) ?_
  refine lv_aload_n F.x F.cd dX10_init_28 rfl (lv_at hl 0 rfl) ?_
  refine s_get F hW (ci := 13) (C := RX10) (T := TX10) (N := 5) (v := .ref (L 0)) (w18) rfl in_X10 4 (by decide) q722 (fun _ h9 => h9) rfl dX10_init_29 ?_
  refine s_getN F hW (ci := 1) (C := RX2) (T := TX2) (N := 6) (v := .ref (L 1)) (hWi2.1) rfl in_X2 0 (by decide) q160 (fun _ h9 => h9) rfl dX10_init_32 ?_
  refine s_callF (As := []) (rest := [.ref h]) (C := RJ2) (T := TJ2) (N := 3) (n := 0) F hW (k_J2_size g l σ18 _ _ _ _ hT_j) (eT_j) rfl (List.mem_of_getElem? (i := 0) rfl) q715 q272 q274 q72 q276 (by decide +kernel) rfl ⟨⟨Nat.le_of_ble_eq_true rfl, Nat.le_of_ble_eq_true rfl⟩, ⟨(Nat.le_of_ble_eq_true rfl), (Nat.le_of_ble_eq_true rfl)⟩⟩ (Nat.le_of_ble_eq_true rfl) hl.1 rfl dX10_init_35 cX_no (fun r25 σ25 H locs hp25 hW => ?_)
  obtain ⟨rfl, hs25⟩ := hp25
  rw [hs25] at hW
  refine W.eq (g2 := F0 m_ 40 ls (.int (nI (v 0)) :: .ref h :: [])) rfl ?_
  refine s_newa F hW 0 (N := v 0) (atype := .int) (ty := .int) rfl rfl rfl q699 (v 0, .inl (fun _ => 0)) rfl (nI_pos (by omega)) (nI_clamp (by omega)) (by show _ * 4 ≤ _; omega) (Nat.le_of_ble_eq_true rfl) (Nat.le_trans (m := 16) (by show 8 + v 0 ≤ _; omega) (Nat.le_of_ble_eq_true rfl)) dX10_init_40 (fun q26_ H hb_q26_ hn_q26_ hW => ?_)
  refine W.widen (k := 2) (n := 16) (Nat.le_of_ble_eq_true rfl) (by show 8 + v 0 ≤ _; omega) ?_
  obtain ⟨σ27, hσ27⟩ : ∃ z, z = sset σ18 q26_ (eI g 0 (v 0) (fun x9 => nI ((fun _ => 0) x9))) := ⟨_, rfl⟩
  have hW : Hl g σ27 H locs := by rw [hσ27]; exact hW
  have w27 : σ27 q26_ = some (eI g 0 (v 0) (fun x9 => nI ((fun _ => 0) x9))) := by rw [hσ27]; exact sset_eq
  have f28 : σ27 (L 0) = some (.inr (1, [.ref (L 1), .ref (L 2), .int (nI (v 2)), .int (nI (v 3)), .int (nI (v 4)), .int (nI (v 5))])) := by rw [hσ27, sset_ne (sto_ne0 hn_q26_ hWi2.1)]; exact hWi2.1
  have f29 : σ27 (L 1) = some (.inr (2, [.int mcT_j, .ref (L 3), .int (nI (v 0))])) := by rw [hσ27, sset_ne (sto_ne0 hn_q26_ eT_j)]; exact eT_j
  have j30 := IsList.new (e := eI g 0 (v 0) (fun x9 => nI ((fun _ => 0) x9))) (hT_j) (hn_q26_)
  rw [← hσ27] at j30
  have f31 : σ27 (L 2) = some (.inr (2, [.int mcP_j, .ref (L 4), .int (nI (v 1))])) := by rw [hσ27, sset_ne (sto_ne0 hn_q26_ eP_j)]; exact eP_j
  have j32 := IsList.new (e := eI g 0 (v 0) (fun x9 => nI ((fun _ => 0) x9))) (hP_j) (hn_q26_)
  rw [← hσ27] at j32
  have f33 : σ27 h = some (.inr (13, [.ref q9_, .null, .int (nI 0), .int (nI 0), .ref (L 0)])) := by rw [hσ27, sset_ne (sto_ne0 hn_q26_ w18)]; exact w18
  have f34 : σ27 q9_ = some (eI g 0 (v 0) (fun x9 => nI ((fun _ => 0) x9))) := by rw [hσ27, sset_ne (sto_ne0 hn_q26_ f24)]; exact f24
  have hn2 : σ q26_ = none := hx3.none hn_q26_ e0 w18
  have hx4 : Ex1 σ σ27 h := by rw [hσ27]; exact hx3.new hn2
  refine s_putF F hW (ci := 13) (C := RX10) (T := TX10) (N := 5) (v := .ref q26_) (ty := (.array .int)) (f33) (b0) rfl in_X10 tyX10_ok nmX10 1 (by decide) q718 (fun _ h9 => h9) rfl rfl (by decide +kernel) rfl rfl (Nat.le_of_ble_eq_true rfl) dX10_init_42 (fun H locs hW => ?_)
  obtain ⟨σ36, hσ36⟩ : ∃ z, z = sset σ27 h (.inr (13, [.ref q9_, .ref q26_, .int (nI 0), .int (nI 0), .ref (L 0)])) := ⟨_, rfl⟩
  have hW : Hl g σ36 H locs := by rw [hσ36]; exact hW
  have w36 : σ36 h = some (.inr (13, [.ref q9_, .ref q26_, .int (nI 0), .int (nI 0), .ref (L 0)])) := by rw [hσ36]; exact sset_eq
  have f37 : σ36 (L 0) = some (.inr (1, [.ref (L 1), .ref (L 2), .int (nI (v 2)), .int (nI (v 3)), .int (nI (v 4)), .int (nI (v 5))])) := by rw [hσ36, sset_ne (sto_ne f33 f28 (by simp))]; exact f28
  have f38 : σ36 (L 1) = some (.inr (2, [.int mcT_j, .ref (L 3), .int (nI (v 0))])) := by rw [hσ36, sset_ne (sto_ne f33 f29 (by simp))]; exact f29
  have j39 := IsList.setO (e := .inr (13, [.ref q9_, .ref q26_, .int (nI 0), .int (nI 0), .ref (L 0)])) (j30) (f33) (by decide)
  rw [← hσ36] at j39
  have f40 : σ36 (L 2) = some (.inr (2, [.int mcP_j, .ref (L 4), .int (nI (v 1))])) := by rw [hσ36, sset_ne (sto_ne f33 f31 (by simp))]; exact f31
  have j41 := IsList.setO (e := .inr (13, [.ref q9_, .ref q26_, .int (nI 0), .int (nI 0), .ref (L 0)])) (j32) (f33) (by decide)
  rw [← hσ36] at j41
  have f42 : σ36 q9_ = some (eI g 0 (v 0) (fun x9 => nI ((fun _ => 0) x9))) := by rw [hσ36, sset_ne (Ne.symm (sto_ne0 hn_q9_ w2))]; exact f34
  have f43 : σ36 q26_ = some (eI g 0 (v 0) (fun x9 => nI ((fun _ => 0) x9))) := by rw [hσ36, sset_ne (Ne.symm (sto_ne0 hn_q26_ w18))]; exact w27
  refine lv_aload_n F.x F.cd dX10_init_45 rfl (lv_at hl 0 rfl) ?_
  refine lv_iconst (v := (nI 1)) F.x F.cd dX10_init_46 (by decide) ?_
  refine s_put F hW (ci := 13) (C := RX10) (T := TX10) (N := 5) (v := .int (nI 1)) (ty := .int) (w36) (b0) rfl in_X10 tyX10_ok nmX10 2 (by decide) q719 (fun _ h9 => h9) rfl (by decide +kernel) rfl rfl (Nat.le_of_ble_eq_true rfl) dX10_init_47 (fun H locs hW => ?_)
  obtain ⟨σ45, hσ45⟩ : ∃ z, z = sset σ36 h (.inr (13, [.ref q9_, .ref q26_, .int (nI 1), .int (nI 0), .ref (L 0)])) := ⟨_, rfl⟩
  have hW : Hl g σ45 H locs := by rw [hσ45]; exact hW
  have w45 : σ45 h = some (.inr (13, [.ref q9_, .ref q26_, .int (nI 1), .int (nI 0), .ref (L 0)])) := by rw [hσ45]; exact sset_eq
  have f46 : σ45 (L 0) = some (.inr (1, [.ref (L 1), .ref (L 2), .int (nI (v 2)), .int (nI (v 3)), .int (nI (v 4)), .int (nI (v 5))])) := by rw [hσ45, sset_ne (sto_ne w36 f37 (by simp))]; exact f37
  have f47 : σ45 (L 1) = some (.inr (2, [.int mcT_j, .ref (L 3), .int (nI (v 0))])) := by rw [hσ45, sset_ne (sto_ne w36 f38 (by simp))]; exact f38
  have j48 := IsList.setO (e := .inr (13, [.ref q9_, .ref q26_, .int (nI 1), .int (nI 0), .ref (L 0)])) (j39) (w36) (by decide)
  rw [← hσ45] at j48
  have f49 : σ45 (L 2) = some (.inr (2, [.int mcP_j, .ref (L 4), .int (nI (v 1))])) := by rw [hσ45, sset_ne (sto_ne w36 f40 (by simp))]; exact f40
  have j50 := IsList.setO (e := .inr (13, [.ref q9_, .ref q26_, .int (nI 1), .int (nI 0), .ref (L 0)])) (j41) (w36) (by decide)
  rw [← hσ45] at j50
  have f51 : σ45 q9_ = some (eI g 0 (v 0) (fun x9 => nI ((fun _ => 0) x9))) := by rw [hσ45, sset_ne (Ne.symm (sto_ne0 hn_q9_ w2))]; exact f42
  have f52 : σ45 q26_ = some (eI g 0 (v 0) (fun x9 => nI ((fun _ => 0) x9))) := by rw [hσ45, sset_ne (Ne.symm (sto_ne0 hn_q26_ w18))]; exact f43
  subst hQ
  exact s_retv F hW (⟨rfl, q9_, q26_, hn1, hn2, hb_q9_, hb_q26_, (sto_ne0 hn_q26_ f24), w45, f51, f52, by rw [hσ45, hσ36]; exact hx4.self.self⟩) ⟨(Nat.le_of_ble_eq_true rfl), (Nat.le_of_ble_eq_true rfl)⟩ dX10_init_50
set_option maxHeartbeats 4000000 in
theorem k_X2_bridges (g : Gh) (l : Launch) (σ : Sto) (L v : Nat → Nat) (hWk : IsWorks g σ L v) (hI : Inv v) : Ct g l yX2_bridges cX2_bridges 3 (some .int) ({ frames := 19, cells := 3, slots := 21, locals := 432 } : Room) [.ref (L 0)] σ (fun r σ' => r = some (.int (nI (brN v (v 1)))) ∧ Ext σ σ') (nox) := by
  refine Ct.body (by decide) (Nat.le_of_ble_eq_true rfl) ?_
  intro p_ e_ s_ m_ args_ below_ meth_ c_ ls H locs Q F hW hl hQ
  have hl : lv_has ls 3 [(0, .ref (L 0))] := hl
  have hT := hWk.2.2.1
  have hP := hWk.2.2.2.1
  obtain ⟨mcT, nT, fT, eT, bT, -⟩ := id hT
  obtain ⟨mcP, nP, fP, eP, bP, -⟩ := id hP
  have hv0 := hI.1
  have hv1 := hI.2.1
  refine s_new F hW 13 (C := RX10) (T := TX10) (N := 5) (fs := [.null, .null, .int (nI 0), .int (nI 0), .null]) rfl in_X10 tyX10_ok q708 q709 q108 (fun j hj => by rcases (show j = 0 ∨ j = 1 ∨ j = 2 ∨ j = 3 ∨ j = 4 by omega) with rfl | rfl | rfl | rfl | rfl <;> rfl) (Nat.le_of_ble_eq_true rfl) (Nat.le_of_ble_eq_true rfl) dX2_bridges_0 (fun q1_ H hb_q1_ hn_q1_ hW => ?_)
  obtain ⟨σ2, hσ2⟩ : ∃ z, z = sset σ q1_ (.inr (13, [.null, .null, .int (nI 0), .int (nI 0), .null])) := ⟨_, rfl⟩
  have hW : Hl g σ2 H locs := by rw [hσ2]; exact hW
  have w2 : σ2 q1_ = some (.inr (13, [.null, .null, .int (nI 0), .int (nI 0), .null])) := by rw [hσ2]; exact sset_eq
  have f3 : σ2 (L 0) = some (.inr (1, [.ref (L 1), .ref (L 2), .int (nI (v 2)), .int (nI (v 3)), .int (nI (v 4)), .int (nI (v 5))])) := by rw [hσ2, sset_ne (sto_ne0 hn_q1_ hWk.1)]; exact hWk.1
  have f4 : σ2 (L 1) = some (.inr (2, [.int mcT, .ref (L 3), .int (nI (v 0))])) := by rw [hσ2, sset_ne (sto_ne0 hn_q1_ eT)]; exact eT
  have j5 := IsList.new (e := .inr (13, [.null, .null, .int (nI 0), .int (nI 0), .null])) (hT) (hn_q1_)
  rw [← hσ2] at j5
  have f6 : σ2 (L 2) = some (.inr (2, [.int mcP, .ref (L 4), .int (nI (v 1))])) := by rw [hσ2, sset_ne (sto_ne0 hn_q1_ eP)]; exact eP
  have j7 := IsList.new (e := .inr (13, [.null, .null, .int (nI 0), .int (nI 0), .null])) (hP) (hn_q1_)
  rw [← hσ2] at j7
  refine lv_dup F.x F.cd dX2_bridges_3 rfl ?_
  refine lv_aload_n F.x F.cd dX2_bridges_4 rfl (lv_at hl 0 rfl) ?_
  refine s_callIN (As := [.ref (L 0)]) (rest := [.ref q1_]) (n := 1) F hW (k_X10_init g l σ2 L v q1_ (by rw [hσ2]; exact hWk.new hn_q1_) hI (w2) (hb_q1_)) q710 q711 q108 q712 rfl (by decide +kernel) rfl ⟨⟨Nat.le_of_ble_eq_true rfl, Nat.le_of_ble_eq_true rfl⟩, ⟨(Nat.le_of_ble_eq_true rfl), (Nat.le_of_ble_eq_true rfl)⟩⟩ (Nat.le_of_ble_eq_true rfl) hl.1 rfl dX2_bridges_5 cX_no (fun r8 σ8 H locs hp8 hW => ?_)
  obtain ⟨rfl, na, la, hnna, hnla, bn, bl, hnl, hnh, hna, hla, hXn⟩ := hp8
  refine W.eq (g2 := F0 m_ 8 ls (.ref q1_ :: [])) rfl ?_
  have hXt : Ext σ σ8 := fun a9 ha9 => by
    have hq9 : a9 ≠ q1_ := by rintro rfl; exact ha9 hn_q1_
    rw [hXn a9 (by rw [hσ2, sset_ne hq9]; exact ha9) hq9, hσ2, sset_ne hq9]
  have h0na : σ na = none := by
    by_cases hq9 : na = q1_
    · rw [hq9]; exact hn_q1_
    · rw [hσ2, sset_ne hq9] at hnna; exact hnna
  have h0la : σ la = none := by
    by_cases hq9 : la = q1_
    · rw [hq9]; exact hn_q1_
    · rw [hσ2, sset_ne hq9] at hnla; exact hnla
  have hWs := hWk.ext hXt
  have hT_s := hWs.2.2.1
  have hP_s := hWs.2.2.2.1
  obtain ⟨mcT_s, nT_s, fT_s, eT_s, bT_s, -⟩ := id hT_s
  obtain ⟨mcP_s, nP_s, fP_s, eP_s, bP_s, -⟩ := id hP_s
  have hv0_s := hI.1
  have hv1_s := hI.2.1
  refine lv_astore_n (lv' := [(1, .ref q1_), (0, .ref (L 0))]) F.x F.cd dX2_bridges_8 rfl hl (by decide) rfl (fun ls hl => ?_)
  refine lv_iconst (v := (nI 0)) F.x F.cd dX2_bridges_9 (by decide) ?_
  refine lv_istore_n (lv' := [(2, .int (nI 0)), (1, .ref q1_), (0, .ref (L 0))]) F.x F.cd dX2_bridges_10 rfl hl (by decide) rfl (fun ls hl => ?_)
  have loop11 : ∀ (n : Nat) (k : Nat) (σk : Sto) (num low : Nat → Nat) (nx br : Nat), k + n = v 0 → σk q1_ = some (.inr (13, [.ref na, .ref la, .int (nI nx), .int (nI br), .ref (L 0)])) → σk na = some (eI g 0 (v 0) (fun x9 => nI (num x9))) → σk la = some (eI g 0 (v 0) (fun x9 => nI (low x9))) → Fn σ8 σk q1_ na la → nx + unvN (fun y => decide (0 < num y)) 8 ≤ 9 → NI v num nx br k → ∀ (H : Heap) (locs : List Loc) (ls : Array Slot), Hl g σk H locs → lv_has ls 3 [(0, .ref (L 0)), (1, .ref q1_), (2, .int (nI k))] → W p_ l e_ ({ frames := 19, cells := 3, slots := 21, locals := 432 } : Room) s_ m_ args_ below_ meth_ c_ H locs 3 21 Q (F0 m_ 11 ls ([])) := by
    intro n
    induction n with
    | zero =>
      intro k σk num low nx br hkn e1 en1 el1 hFk hb1 hNI H locs ls hW hl
      have hWn := hWs.fn hFk hnh hna hla
      have hT_k := hWn.2.2.1
      have hP_k := hWn.2.2.2.1
      obtain ⟨mcT_k, nT_k, fT_k, eT_k, bT_k, -⟩ := id hT_k
      obtain ⟨mcP_k, nP_k, fP_k, eP_k, bP_k, -⟩ := id hP_k
      have hv0_k := hI.1
      have hv1_k := hI.2.1
      refine lv_iload_n F.x F.cd dX2_bridges_11 rfl (lv_at hl 2 rfl) ?_
      refine lv_aload_n F.x F.cd dX2_bridges_12 rfl (lv_at hl 0 rfl) ?_
      refine s_get F hW (ci := 1) (C := RX2) (T := TX2) (N := 6) (v := .ref (L 1)) (hWn.1) rfl in_X2 0 (by decide) q159 (fun _ h9 => h9) rfl dX2_bridges_13 ?_
      refine s_callF (As := []) (rest := [.int (nI k)]) (C := RJ2) (T := TJ2) (N := 3) (n := 0) F hW (k_J2_size g l σk _ _ _ _ hT_k) (eT_k) rfl (List.mem_of_getElem? (i := 0) rfl) q317 q272 q274 q72 q276 (by decide +kernel) rfl ⟨⟨Nat.le_of_ble_eq_true rfl, Nat.le_of_ble_eq_true rfl⟩, ⟨(Nat.le_of_ble_eq_true rfl), (Nat.le_of_ble_eq_true rfl)⟩⟩ (Nat.le_of_ble_eq_true rfl) hl.1 rfl dX2_bridges_16 cX_no (fun r9 σ9 H locs hp9 hW => ?_)
      obtain ⟨rfl, hs9⟩ := hp9
      rw [hs9] at hW
      refine W.eq (g2 := F0 m_ 21 ls (.int (nI (v 0)) :: .int (nI k) :: [])) rfl ?_
      refine n_icmp_ge (a := k) (b := v 0) (tgt := 45) F (by omega) (by omega) dX2_bridges_21 (by decide) (fun c_21 => ?_) (fun c_21 => ?_)
      · refine lv_aload_n F.x F.cd dX2_bridges_45 rfl (lv_at hl 1 rfl) ?_
        refine s_getN F hW (ci := 13) (C := RX10) (T := TX10) (N := 5) (v := .int (nI br)) (e1) rfl in_X10 3 (by decide) q721 (fun _ h9 => h9) rfl dX2_bridges_46 ?_
        subst hQ
        exact s_reti (v := (nI br)) F hW rfl (⟨by rw [← NI.done hI (by rw [show k = v 0 by omega] at hNI; exact hNI)], hFk.ext hXt hn_q1_ h0na h0la⟩) ⟨(Nat.le_of_ble_eq_true rfl), (Nat.le_of_ble_eq_true rfl)⟩ dX2_bridges_49
      · exact absurd c_21 (by omega)
    | succ n ih11 =>
      intro k σk num low nx br hkn e1 en1 el1 hFk hb1 hNI H locs ls hW hl
      have hWn := hWs.fn hFk hnh hna hla
      have hT_k := hWn.2.2.1
      have hP_k := hWn.2.2.2.1
      obtain ⟨mcT_k, nT_k, fT_k, eT_k, bT_k, -⟩ := id hT_k
      obtain ⟨mcP_k, nP_k, fP_k, eP_k, bP_k, -⟩ := id hP_k
      have hv0_k := hI.1
      have hv1_k := hI.2.1
      refine lv_iload_n F.x F.cd dX2_bridges_11 rfl (lv_at hl 2 rfl) ?_
      refine lv_aload_n F.x F.cd dX2_bridges_12 rfl (lv_at hl 0 rfl) ?_
      refine s_get F hW (ci := 1) (C := RX2) (T := TX2) (N := 6) (v := .ref (L 1)) (hWn.1) rfl in_X2 0 (by decide) q159 (fun _ h9 => h9) rfl dX2_bridges_13 ?_
      refine s_callF (As := []) (rest := [.int (nI k)]) (C := RJ2) (T := TJ2) (N := 3) (n := 0) F hW (k_J2_size g l σk _ _ _ _ hT_k) (eT_k) rfl (List.mem_of_getElem? (i := 0) rfl) q317 q272 q274 q72 q276 (by decide +kernel) rfl ⟨⟨Nat.le_of_ble_eq_true rfl, Nat.le_of_ble_eq_true rfl⟩, ⟨(Nat.le_of_ble_eq_true rfl), (Nat.le_of_ble_eq_true rfl)⟩⟩ (Nat.le_of_ble_eq_true rfl) hl.1 rfl dX2_bridges_16 cX_no (fun r10 σ10 H locs hp10 hW => ?_)
      obtain ⟨rfl, hs10⟩ := hp10
      rw [hs10] at hW
      refine W.eq (g2 := F0 m_ 21 ls (.int (nI (v 0)) :: .int (nI k) :: [])) rfl ?_
      refine n_icmp_ge (a := k) (b := v 0) (tgt := 45) F (by omega) (by omega) dX2_bridges_21 (by decide) (fun c_21 => ?_) (fun c_21 => ?_)
      · exact absurd c_21 (by omega)
      · refine lv_aload_n F.x F.cd dX2_bridges_24 rfl (lv_at hl 1 rfl) ?_
        refine s_getN F hW (ci := 13) (C := RX10) (T := TX10) (N := 5) (v := .ref na) (e1) rfl in_X10 0 (by decide) q717 (fun _ h9 => h9) rfl dX2_bridges_25 ?_
        have hnk := hNI.2.1 k
        refine lv_iload_n F.x F.cd dX2_bridges_28 rfl (lv_at hl 2 rfl) ?_
        refine n_iald (i := k) (n := v 0) (f := (fun x9 => nI (num x9))) (x := (nI (num k))) F hW (en1) (by omega) (by omega) (rfl) dX2_bridges_29 ?_
        refine n_if_ne (a := num k) (tgt := 39) F (by omega) dX2_bridges_30 (by decide) (fun c_30 => ?_) (fun c_30 => ?_)
        · refine lv_iinc (k := 2) (v := (nI (k + 1))) (lv' := [(2, .int (nI (k + 1))), (0, .ref (L 0)), (1, .ref q1_)]) F.x F.cd dX2_bridges_39 hl rfl (inc_nI k 1) (by decide) rfl (fun ls hl => ?_)
          refine lv_goto (tgt := 11) F.x F.cd dX2_bridges_42 (by decide) ?_
          exact ih11 (k + 1) σk num low nx br (by omega) (e1) (en1) (el1) (hFk) (hb1) (hNI.skip (by omega)) H locs ls hW (lv_sub hl [1, 2, 0] rfl)
        · refine lv_aload_n F.x F.cd dX2_bridges_33 rfl (lv_at hl 1 rfl) ?_
          refine lv_iload_n F.x F.cd dX2_bridges_34 rfl (lv_at hl 2 rfl) ?_
          refine lv_iconst (v := (-1 : Int32)) F.x F.cd dX2_bridges_35 (by decide) ?_
          refine s_callV (As := [.int (nI k), .int (-1 : Int32)]) (rest := []) (C := RX10) (T := TX10) (N := 5) (n := 2) F hW (k_X10_visit_8 g l σk L v q1_ na la k nx br (-1) num low hWn hI e1 en1 el1 hb_q1_ bn bl hnl (hNI.pre (by omega) c_30 hI) (unvN_b 8) hb1) (e1) rfl q734 q735 q736 q108 q737 rfl (by decide +kernel) rfl ⟨⟨Nat.le_of_ble_eq_true rfl, Nat.le_of_ble_eq_true rfl⟩, ⟨(Nat.le_of_ble_eq_true rfl), (Nat.le_of_ble_eq_true rfl)⟩⟩ (Nat.le_of_ble_eq_true rfl) hl.1 rfl dX2_bridges_36 cX_no (fun r11 σ11 H locs hp11 hW => ?_)
          obtain ⟨rfl, num2, low2, nx2, br2, e2, en2, el2, hF2, hb2, hP2⟩ := hp11
          refine W.eq (g2 := F0 m_ 39 ls ([])) rfl ?_
          refine lv_iinc (k := 2) (v := (nI (k + 1))) (lv' := [(2, .int (nI (k + 1))), (0, .ref (L 0)), (1, .ref q1_)]) F.x F.cd dX2_bridges_39 hl rfl (inc_nI k 1) (by decide) rfl (fun ls hl => ?_)
          refine lv_goto (tgt := 11) F.x F.cd dX2_bridges_42 (by decide) ?_
          exact ih11 (k + 1) σ11 num2 low2 nx2 br2 (by omega) (e2) (en2) (el2) (hFk.trans hF2) (hb2) (hNI.next hI c_30 hP2) H locs ls hW (lv_sub hl [1, 2, 0] rfl)
  exact loop11 (v 0) 0 _ _ _ _ _ (by omega) (hnh) (hna) (hla) (Fn.refl) (Nat.add_le_add_left (unvN_b (R := fun y => decide (0 < (fun _ => 0) y)) 8) 1) (NI.start) H locs ls hW (lv_sub hl [2, 1, 0] rfl)
