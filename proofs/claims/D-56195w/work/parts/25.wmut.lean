/-! ===== Works: changing ===== -/
set_option maxRecDepth 100000
set_option maxHeartbeats 4000000 in
theorem k_X2_flow (g : Gh) (l : Launch) (σ : Sto) (L v : Nat → Nat) (q : Nat) (x : Nat) (hWk : IsWorks g σ L v) (hI : Inv v) (hq : q < v 1) (hx1 : 0 < x) (hx2 : x ≤ lit v q) : Ct g l yX2_flow cX2_flow 7 none ({ frames := 4, cells := 0, slots := 0, locals := 86 } : Room) [.ref (L 0), .ref (L (100 + q)), .int (nI x)] σ (fun r σ' => r = none ∧ IsWorks g σ' L (flowv v q x) ∧ Fr g σ σ' L v) (nox) := by
  refine Ct.body (by decide) (Nat.le_of_ble_eq_true rfl) ?_
  intro p_ e_ s_ m_ args_ below_ meth_ c_ ls H locs Q F hW hl hQ
  have hl : lv_has ls 7 [(0, .ref (L 0)), (1, .ref (L (100 + q))), (2, .int (nI x))] := hl
  have hT := hWk.2.2.1
  have hP := hWk.2.2.2.1
  obtain ⟨mcT, nT, fT, eT, bT, -⟩ := id hT
  obtain ⟨mcP, nP, fP, eP, bP, -⟩ := id hP
  have hv0 := hI.1
  have hv1 := hI.2.1
  obtain ⟨hqa, hqb, hqab, hqm, hqv, hqr, hqd⟩ := hI.pp hq
  obtain ⟨hac, hac2, hak, hai⟩ := hI.tk hqa
  obtain ⟨hbc, hbc2, hbk, hbi⟩ := hI.tk hqb
  have ho : opn (pV v q) (pD v q) = true := lit_pos (by omega)
  have hI8_ := hI.1
  have hx3 := lit_le hI hq
  refine lv_aload_n F.x F.cd dX2_flow_0 rfl (lv_at hl 0 rfl) ?_
  refine lv_aload_n F.x F.cd dX2_flow_1 rfl (lv_at hl 1 rfl) ?_
  refine s_callV (As := [.ref (L (100 + q))]) (rest := []) (C := RX2) (T := TX2) (N := 6) (n := 1) F hW (k_X2_direction g l σ L v q hWk hI (by omega)) (hWk.1) rfl q1302 q1304 qs13 q69 q1305 rfl (by decide +kernel) rfl ⟨⟨Nat.le_of_ble_eq_true rfl, Nat.le_of_ble_eq_true rfl⟩, ⟨(Nat.le_of_ble_eq_true rfl), (Nat.le_of_ble_eq_true rfl)⟩⟩ (Nat.le_of_ble_eq_true rfl) hl.1 rfl dX2_flow_2 cX_no (fun r1 σ1 H locs hp1 hW => ?_)
  obtain ⟨rfl, hs1⟩ := hp1
  rw [hs1] at hW
  refine W.eq (g2 := F0 m_ 5 ls (.ref (if tK v (pB v q) < tK v (pA v q) then gA g 4 else gA g 5) :: [])) rfl ?_
  by_cases hf1 : tK v (pB v q) < tK v (pA v q)
  · refine W.eq (g2 := F0 m_ 5 ls (.ref (gA g 4) :: [])) (by rw [if_pos hf1]) ?_
    refine lv_aload_n F.x F.cd dX2_flow_5 rfl (lv_at hl 1 rfl) ?_
    refine s_callB (owner := "FilterWaterworks$Direction") (As := [.ref (L (100 + q))]) (rest := []) (C := RX15) (T := TX4) (N := 0) (n := 1) F hW (k_X15_from g l σ (gA g 4) (L (100 + q)) (pA v q) (pB v q) (pM v q) (pV v q) (pR v q) (pD v q) (pL v q) ((hWk.2.2.2.2.2.1 q hq).1)) (hW.1.old F.cs F.cs.2.2.2.2.2.1) rfl q1310 q1312 q1313 q1314 q1315 q1311 (by decide +kernel) rfl ⟨⟨Nat.le_of_ble_eq_true rfl, Nat.le_of_ble_eq_true rfl⟩, ⟨(Nat.le_of_ble_eq_true rfl), (Nat.le_of_ble_eq_true rfl)⟩⟩ (Nat.le_of_ble_eq_true rfl) hl.1 rfl dX2_flow_6 cX_no (fun r2 σ2 H locs hp2 hW => ?_)
    obtain ⟨rfl, hs2⟩ := hp2
    rw [hs2] at hW
    refine W.eq (g2 := F0 m_ 9 ls (.int (nI (pA v q)) :: [])) rfl ?_
    refine lv_istore_n (lv' := [(3, .int (nI (pA v q))), (0, .ref (L 0)), (1, .ref (L (100 + q))), (2, .int (nI x))]) F.x F.cd dX2_flow_9 rfl hl (by decide) rfl (fun ls hl => ?_)
    refine lv_aload_n F.x F.cd dX2_flow_10 rfl (lv_at hl 1 rfl) ?_
    refine s_get F hW (ci := 1) (C := RX2) (T := TX2) (N := 6) (v := .ref (L 1)) (hWk.1) rfl in_X2 0 (by decide) q159 (fun _ h9 => h9) rfl dX2_flow_11 ?_
    refine lv_iload_n F.x F.cd dX2_flow_14 rfl (lv_at hl 0 rfl) ?_
    refine s_callF (As := [.int (nI (pA v q))]) (rest := []) (C := RJ2) (T := TJ2) (N := 3) (n := 1) F hW (k_J2_get g l σ _ _ _ _ (pA v q) hT (by omega)) (eT) rfl (List.mem_of_getElem? (i := 1) rfl) q693 q328 q330 q72 q332 (by decide +kernel) rfl ⟨⟨Nat.le_of_ble_eq_true rfl, Nat.le_of_ble_eq_true rfl⟩, ⟨(Nat.le_of_ble_eq_true rfl), (Nat.le_of_ble_eq_true rfl)⟩⟩ (Nat.le_of_ble_eq_true rfl) hl.1 rfl dX2_flow_15 cX_no (fun r3 σ3 H locs hp3 hW => ?_)
    obtain ⟨rfl, hs3⟩ := hp3
    rw [hs3] at hW
    refine W.eq (g2 := F0 m_ 20 ls (.ref (L (10 + (pA v q))) :: [])) rfl ?_
    refine s_cast_ F hW (C := RX4) (T := TX4) (N := 3) ((hWk.2.2.2.2.1 (pA v q) (by omega)).1) rfl q790 dX2_flow_20 ?_
    refine lv_astore (lv' := [(4, .ref (L (10 + (pA v q)))), (3, .int (nI (pA v q))), (0, .ref (L 0)), (1, .ref (L (100 + q))), (2, .int (nI x))]) F.x F.cd dX2_flow_23 hl (by decide) rfl (fun ls hl => ?_)
    refine lv_aload F.x F.cd dX2_flow_25 (lv_at hl 0 rfl) ?_
    refine s_getN F hW (ci := 8) (C := RX4) (T := TX4) (N := 3) (v := .int (nI (tI v (pA v q)))) ((hWk.2.2.2.2.1 (pA v q) (by omega)).1) rfl in_X4 2 (by decide) q954 (fun _ h9 => h9) rfl dX2_flow_27 ?_
    refine lv_istore (lv' := [(5, .int (nI (tI v (pA v q)))), (4, .ref (L (10 + (pA v q)))), (3, .int (nI (pA v q))), (0, .ref (L 0)), (1, .ref (L (100 + q))), (2, .int (nI x))]) F.x F.cd dX2_flow_30 hl (by decide) rfl (fun ls hl => ?_)
    refine lv_iload_n F.x F.cd dX2_flow_32 rfl (lv_at hl 5 rfl) ?_
    refine lv_aload_n F.x F.cd dX2_flow_33 rfl (lv_at hl 4 rfl) ?_
    refine s_getN F hW (ci := 9) (C := RX5) (T := TX5) (N := 7) (v := .int (nI (pR v q))) ((hWk.2.2.2.2.2.1 q hq).1) rfl in_X5 4 (by decide) q1082 (fun _ h9 => h9) rfl dX2_flow_34 ?_
    refine s_mmin (v := (nI (min x (pR v q)))) F q852 q453 q87 q454 hl.1 (Nat.le_of_ble_eq_true rfl) (Nat.le_of_ble_eq_true rfl) (Nat.le_of_ble_eq_true rfl) (Nat.le_of_ble_eq_true rfl) (nI_min (by omega) (by omega)) dX2_flow_37 ?_
    refine lv_istore (lv' := [(6, .int (nI (min x (pR v q)))), (5, .int (nI (tI v (pA v q)))), (4, .ref (L (10 + (pA v q)))), (3, .int (nI (pA v q))), (0, .ref (L 0)), (1, .ref (L (100 + q))), (2, .int (nI x))]) F.x F.cd dX2_flow_40 hl (by decide) rfl (fun ls hl => ?_)
    have hlx : x ≤ (tK v (pA v q) - tK v (pB v q)) / 2 := by rw [lit_f ho hf1] at hx2; omega
    refine lv_aload F.x F.cd dX2_flow_42 (lv_at hl 2 rfl) ?_
    refine lv_iload_n F.x F.cd dX2_flow_44 rfl (lv_at hl 6 rfl) ?_
    refine s_callV (As := [.int (nI x)]) (rest := []) (C := RX4) (T := TX4) (N := 3) (n := 1) F hW (k_X4_drain g l σ (L (10 + (pA v q))) (tC v (pA v q)) (tK v (pA v q)) (tI v (pA v q)) x ((hWk.2.2.2.2.1 (pA v q) (by omega)).1) ((hWk.2.2.2.2.1 (pA v q) (by omega)).2) (by omega) (by omega)) ((hWk.2.2.2.2.1 (pA v q) (by omega)).1) rfl q1270 q1271 q1272 q94 q1273 rfl (by decide +kernel) rfl ⟨⟨Nat.le_of_ble_eq_true rfl, Nat.le_of_ble_eq_true rfl⟩, ⟨(Nat.le_of_ble_eq_true rfl), (Nat.le_of_ble_eq_true rfl)⟩⟩ (Nat.le_of_ble_eq_true rfl) hl.1 rfl dX2_flow_45 cX_no (fun r4 σ4 H locs hp4 hW => ?_)
    obtain ⟨rfl, hσ4⟩ := hp4
    refine W.eq (g2 := F0 m_ 48 ls ([])) rfl ?_
    rw [if_neg (show ¬ tK v (pA v q) - x = 0 by omega)] at hσ4
    have w5 : σ4 (L (10 + (pA v q))) = some (.inr (8, [.int (nI (tC v (pA v q))), .int (nI (tK v (pA v q) - x)), .int (nI (tI v (pA v q)))])) := by rw [hσ4]; exact sset_eq
    have f6 : σ4 (L 0) = some (.inr (1, [.ref (L 1), .ref (L 2), .int (nI (v 2)), .int (nI (v 3)), .int (nI (v 4)), .int (nI (v 5))])) := by rw [hσ4, sset_ne (sto_ne ((hWk.2.2.2.2.1 (pA v q) (by omega)).1) hWk.1 (by simp))]; exact hWk.1
    have f7 : σ4 (L 1) = some (.inr (2, [.int mcT, .ref (L 3), .int (nI (v 0))])) := by rw [hσ4, sset_ne (sto_ne ((hWk.2.2.2.2.1 (pA v q) (by omega)).1) eT (by simp))]; exact eT
    have j8 := IsList.setO (e := .inr (8, [.int (nI (tC v (pA v q))), .int (nI (tK v (pA v q) - x)), .int (nI (tI v (pA v q)))])) (hT) ((hWk.2.2.2.2.1 (pA v q) (by omega)).1) (by decide)
    rw [← hσ4] at j8
    have f9 : σ4 (L 2) = some (.inr (2, [.int mcP, .ref (L 4), .int (nI (v 1))])) := by rw [hσ4, sset_ne (sto_ne ((hWk.2.2.2.2.1 (pA v q) (by omega)).1) eP (by simp))]; exact eP
    have j10 := IsList.setO (e := .inr (8, [.int (nI (tC v (pA v q))), .int (nI (tK v (pA v q) - x)), .int (nI (tI v (pA v q)))])) (hP) ((hWk.2.2.2.2.1 (pA v q) (by omega)).1) (by decide)
    rw [← hσ4] at j10
    have f11 : σ4 (L (100 + q)) = some (.inr (9, [.int (nI (pA v q)), .int (nI (pB v q)), .int (nI (pM v q)), .int (nI (pV v q)), .int (nI (pR v q)), .int (nI (pD v q)), .int (nI (pL v q))])) := by rw [hσ4, sset_ne (sto_ne ((hWk.2.2.2.2.1 (pA v q) (by omega)).1) ((hWk.2.2.2.2.2.1 q hq).1) (by simp))]; exact (hWk.2.2.2.2.2.1 q hq).1
    have f12 : σ4 (L (10 + (pB v q))) = some (.inr (8, [.int (nI (tC v (pB v q))), .int (nI (tK v (pB v q))), .int (nI (tI v (pB v q)))])) := by rw [hσ4, sset_ne (fun h => hqab (hWk.2.2.2.2.2.2.1 _ _ hqb hqa h).symm)]; exact (hWk.2.2.2.2.1 (pB v q) hqb).1
    refine lv_aload_n F.x F.cd dX2_flow_48 rfl (lv_at hl 5 rfl) ?_
    refine lv_dup F.x F.cd dX2_flow_49 rfl ?_
    refine s_getN F hW (ci := 9) (C := RX5) (T := TX5) (N := 7) (v := .int (nI (pL v q))) (f11) rfl in_X5 6 (by decide) q1088 (fun _ h9 => h9) rfl dX2_flow_50 ?_
    refine lv_iload_n F.x F.cd dX2_flow_53 rfl (lv_at hl 6 rfl) ?_
    refine a_iadd (v := (nI (pL v q + x))) F (nI_add _ _) dX2_flow_54 ?_
    refine s_putN F hW (ci := 9) (C := RX5) (T := TX5) (N := 7) (v := .int (nI (pL v q + x))) (ty := .int) (f11) ((hWk.2.2.2.2.2.1 q hq).2) rfl in_X5 tyX5_ok nmX5 6 (by decide) q1088 (fun _ h9 => h9) rfl (by decide +kernel) rfl rfl (Nat.le_of_ble_eq_true rfl) dX2_flow_55 (fun H locs hW => ?_)
    obtain ⟨σ14, hσ14⟩ : ∃ z, z = sset σ4 (L (100 + q)) (.inr (9, [.int (nI (pA v q)), .int (nI (pB v q)), .int (nI (pM v q)), .int (nI (pV v q)), .int (nI (pR v q)), .int (nI (pD v q)), .int (nI (pL v q + x))])) := ⟨_, rfl⟩
    have hW : Hl g σ14 H locs := by rw [hσ14]; exact hW
    have w14 : σ14 (L (100 + q)) = some (.inr (9, [.int (nI (pA v q)), .int (nI (pB v q)), .int (nI (pM v q)), .int (nI (pV v q)), .int (nI (pR v q)), .int (nI (pD v q)), .int (nI (pL v q + x))])) := by rw [hσ14]; exact sset_eq
    have f15 : σ14 (L 0) = some (.inr (1, [.ref (L 1), .ref (L 2), .int (nI (v 2)), .int (nI (v 3)), .int (nI (v 4)), .int (nI (v 5))])) := by rw [hσ14, sset_ne (sto_ne f11 f6 (by simp))]; exact f6
    have f16 : σ14 (L 1) = some (.inr (2, [.int mcT, .ref (L 3), .int (nI (v 0))])) := by rw [hσ14, sset_ne (sto_ne f11 f7 (by simp))]; exact f7
    have j17 := IsList.setO (e := .inr (9, [.int (nI (pA v q)), .int (nI (pB v q)), .int (nI (pM v q)), .int (nI (pV v q)), .int (nI (pR v q)), .int (nI (pD v q)), .int (nI (pL v q + x))])) (j8) (f11) (by decide)
    rw [← hσ14] at j17
    have f18 : σ14 (L 2) = some (.inr (2, [.int mcP, .ref (L 4), .int (nI (v 1))])) := by rw [hσ14, sset_ne (sto_ne f11 f9 (by simp))]; exact f9
    have j19 := IsList.setO (e := .inr (9, [.int (nI (pA v q)), .int (nI (pB v q)), .int (nI (pM v q)), .int (nI (pV v q)), .int (nI (pR v q)), .int (nI (pD v q)), .int (nI (pL v q + x))])) (j10) (f11) (by decide)
    rw [← hσ14] at j19
    have f20 : σ14 (L (10 + (pA v q))) = some (.inr (8, [.int (nI (tC v (pA v q))), .int (nI (tK v (pA v q) - x)), .int (nI (tI v (pA v q)))])) := by rw [hσ14, sset_ne (sto_ne f11 w5 (by simp))]; exact w5
    have f21 : σ14 (L (10 + (pB v q))) = some (.inr (8, [.int (nI (tC v (pB v q))), .int (nI (tK v (pB v q))), .int (nI (tI v (pB v q)))])) := by rw [hσ14, sset_ne (sto_ne f11 f12 (by simp))]; exact f12
    refine lv_aload_n F.x F.cd dX2_flow_58 rfl (lv_at hl 4 rfl) ?_
    refine lv_dup F.x F.cd dX2_flow_59 rfl ?_
    refine s_get F hW (ci := 1) (C := RX2) (T := TX2) (N := 6) (v := .int (nI (v 5))) (f15) rfl in_X2 5 (by decide) q172 (fun _ h9 => h9) rfl dX2_flow_60 ?_
    refine lv_iload F.x F.cd dX2_flow_63 (lv_at hl 0 rfl) ?_
    refine a_iadd (v := (nI (v 5 + (min x (pR v q))))) F (nI_add _ _) dX2_flow_65 ?_
    refine s_put F hW (ci := 1) (C := RX2) (T := TX2) (N := 6) (v := .int (nI (v 5 + (min x (pR v q))))) (ty := .int) (f15) (hWk.2.1) rfl in_X2 tyX2_ok nmX2 5 (by decide) q172 (fun _ h9 => h9) rfl (by decide +kernel) rfl rfl (Nat.le_of_ble_eq_true rfl) dX2_flow_66 (fun H locs hW => ?_)
    obtain ⟨σ23, hσ23⟩ : ∃ z, z = sset σ14 (L 0) (.inr (1, [.ref (L 1), .ref (L 2), .int (nI (v 2)), .int (nI (v 3)), .int (nI (v 4)), .int (nI (v 5 + (min x (pR v q))))])) := ⟨_, rfl⟩
    have hW : Hl g σ23 H locs := by rw [hσ23]; exact hW
    have w23 : σ23 (L 0) = some (.inr (1, [.ref (L 1), .ref (L 2), .int (nI (v 2)), .int (nI (v 3)), .int (nI (v 4)), .int (nI (v 5 + (min x (pR v q))))])) := by rw [hσ23]; exact sset_eq
    have f24 : σ23 (L 1) = some (.inr (2, [.int mcT, .ref (L 3), .int (nI (v 0))])) := by rw [hσ23, sset_ne (sto_ne f15 f16 (by simp))]; exact f16
    have j25 := IsList.setO (e := .inr (1, [.ref (L 1), .ref (L 2), .int (nI (v 2)), .int (nI (v 3)), .int (nI (v 4)), .int (nI (v 5 + (min x (pR v q))))])) (j17) (f15) (by decide)
    rw [← hσ23] at j25
    have f26 : σ23 (L 2) = some (.inr (2, [.int mcP, .ref (L 4), .int (nI (v 1))])) := by rw [hσ23, sset_ne (sto_ne f15 f18 (by simp))]; exact f18
    have j27 := IsList.setO (e := .inr (1, [.ref (L 1), .ref (L 2), .int (nI (v 2)), .int (nI (v 3)), .int (nI (v 4)), .int (nI (v 5 + (min x (pR v q))))])) (j19) (f15) (by decide)
    rw [← hσ23] at j27
    have f28 : σ23 (L (100 + q)) = some (.inr (9, [.int (nI (pA v q)), .int (nI (pB v q)), .int (nI (pM v q)), .int (nI (pV v q)), .int (nI (pR v q)), .int (nI (pD v q)), .int (nI (pL v q + x))])) := by rw [hσ23, sset_ne (sto_ne f15 w14 (by simp))]; exact w14
    have f29 : σ23 (L (10 + (pA v q))) = some (.inr (8, [.int (nI (tC v (pA v q))), .int (nI (tK v (pA v q) - x)), .int (nI (tI v (pA v q)))])) := by rw [hσ23, sset_ne (sto_ne f15 f20 (by simp))]; exact f20
    have f30 : σ23 (L (10 + (pB v q))) = some (.inr (8, [.int (nI (tC v (pB v q))), .int (nI (tK v (pB v q))), .int (nI (tI v (pB v q)))])) := by rw [hσ23, sset_ne (sto_ne f15 f21 (by simp))]; exact f21
    refine lv_iload_n F.x F.cd dX2_flow_69 rfl (lv_at hl 6 rfl) ?_
    refine lv_iload F.x F.cd dX2_flow_70 (lv_at hl 0 rfl) ?_
    refine n_icmp_le (a := x) (b := min x (pR v q)) (tgt := 105) F (by omega) (by omega) dX2_flow_72 (by decide) (fun c_72 => ?_) (fun c_72 => ?_)
    · refine lv_aload_n F.x F.cd dX2_flow_105 rfl (lv_at hl 5 rfl) ?_
      refine lv_iload F.x F.cd dX2_flow_106 (lv_at hl 1 rfl) ?_
      refine s_callV (As := [.int (nI (tI v (pA v q)))]) (rest := []) (C := RX5) (T := TX5) (N := 7) (n := 1) F hW (k_X5_soil g l σ23 (L (100 + q)) (pA v q) (pB v q) (pM v q) (pV v q) (pR v q) (pD v q) (pL v q + x) (tI v (pA v q)) (f28) ((hWk.2.2.2.2.2.1 q hq).2) (by omega) (by omega)) (f28) rfl q1323 q1324 q1325 q96 q1326 rfl (by decide +kernel) rfl ⟨⟨Nat.le_of_ble_eq_true rfl, Nat.le_of_ble_eq_true rfl⟩, ⟨(Nat.le_of_ble_eq_true rfl), (Nat.le_of_ble_eq_true rfl)⟩⟩ (Nat.le_of_ble_eq_true rfl) hl.1 rfl dX2_flow_108 cX_no (fun r31 σ31 H locs hp31 hW => ?_)
      obtain ⟨rfl, hσ31⟩ := hp31
      refine W.eq (g2 := F0 m_ 111 ls ([])) rfl ?_
      have w32 : σ31 (L (100 + q)) = some (.inr (9, [.int (nI (pA v q)), .int (nI (pB v q)), .int (nI (pM v q)), .int (nI (pV v q)), .int (nI (pR v q)), .int (nI (min 20 (pD v q + pops ((tI v (pA v q)) &&& (pM v q))))), .int (nI (pL v q + x))])) := by rw [hσ31]; exact sset_eq
      have f33 : σ31 (L 0) = some (.inr (1, [.ref (L 1), .ref (L 2), .int (nI (v 2)), .int (nI (v 3)), .int (nI (v 4)), .int (nI (v 5 + (min x (pR v q))))])) := by rw [hσ31, sset_ne (sto_ne f28 w23 (by simp))]; exact w23
      have f34 : σ31 (L 1) = some (.inr (2, [.int mcT, .ref (L 3), .int (nI (v 0))])) := by rw [hσ31, sset_ne (sto_ne f28 f24 (by simp))]; exact f24
      have j35 := IsList.setO (e := .inr (9, [.int (nI (pA v q)), .int (nI (pB v q)), .int (nI (pM v q)), .int (nI (pV v q)), .int (nI (pR v q)), .int (nI (min 20 (pD v q + pops ((tI v (pA v q)) &&& (pM v q))))), .int (nI (pL v q + x))])) (j25) (f28) (by decide)
      rw [← hσ31] at j35
      have f36 : σ31 (L 2) = some (.inr (2, [.int mcP, .ref (L 4), .int (nI (v 1))])) := by rw [hσ31, sset_ne (sto_ne f28 f26 (by simp))]; exact f26
      have j37 := IsList.setO (e := .inr (9, [.int (nI (pA v q)), .int (nI (pB v q)), .int (nI (pM v q)), .int (nI (pV v q)), .int (nI (pR v q)), .int (nI (min 20 (pD v q + pops ((tI v (pA v q)) &&& (pM v q))))), .int (nI (pL v q + x))])) (j27) (f28) (by decide)
      rw [← hσ31] at j37
      have f38 : σ31 (L (10 + (pA v q))) = some (.inr (8, [.int (nI (tC v (pA v q))), .int (nI (tK v (pA v q) - x)), .int (nI (tI v (pA v q)))])) := by rw [hσ31, sset_ne (sto_ne f28 f29 (by simp))]; exact f29
      have f39 : σ31 (L (10 + (pB v q))) = some (.inr (8, [.int (nI (tC v (pB v q))), .int (nI (tK v (pB v q))), .int (nI (tI v (pB v q)))])) := by rw [hσ31, sset_ne (sto_ne f28 f30 (by simp))]; exact f30
      subst hQ
      exact s_retv F hW (⟨rfl, by rw [hσ31, hσ23, hσ14, hσ4]; exact (fl_end hWk hq hqa hqb hI.1 (if_pos hf1) (if_pos hf1)).2 c_72, by rw [hσ31, hσ23, hσ14, hσ4]; exact (((((Fr.refl.set (hWk.foT hqa)).set (hWk.foP hq)).set hWk.foW)).set (hWk.foP hq))⟩) ⟨(Nat.le_of_ble_eq_true rfl), (Nat.le_of_ble_eq_true rfl)⟩ dX2_flow_111
    · refine lv_aload_n F.x F.cd dX2_flow_75 rfl (lv_at hl 4 rfl) ?_
      refine s_get F hW (ci := 1) (C := RX2) (T := TX2) (N := 6) (v := .ref (L 1)) (w23) rfl in_X2 0 (by decide) q159 (fun _ h9 => h9) rfl dX2_flow_76 ?_
      refine lv_aload_n F.x F.cd dX2_flow_79 rfl (lv_at hl 5 rfl) ?_
      refine lv_iload_n F.x F.cd dX2_flow_80 rfl (lv_at hl 3 rfl) ?_
      refine s_callV (As := [.int (nI (pA v q))]) (rest := [.ref (L 1)]) (C := RX5) (T := TX5) (N := 7) (n := 1) F hW (k_X5_otherEnd g l σ23 (L (100 + q)) (pA v q) (pB v q) (pM v q) (pV v q) (pR v q) (pD v q) (pL v q + x) (pA v q) (f28) (by omega) (by omega)) (f28) rfl q851 q680 q681 q96 q682 rfl (by decide +kernel) rfl ⟨⟨Nat.le_of_ble_eq_true rfl, Nat.le_of_ble_eq_true rfl⟩, ⟨(Nat.le_of_ble_eq_true rfl), (Nat.le_of_ble_eq_true rfl)⟩⟩ (Nat.le_of_ble_eq_true rfl) hl.1 rfl dX2_flow_81 cX_no (fun r40 σ40 H locs hp40 hW => ?_)
      obtain ⟨rfl, hs40⟩ := hp40
      rw [hs40] at hW
      refine W.eq (g2 := F0 m_ 84 ls (.int (nI (pB v q)) :: .ref (L 1) :: [])) (by rw [oth_a]; rfl) ?_
      refine s_callF (As := [.int (nI (pB v q))]) (rest := []) (C := RJ2) (T := TJ2) (N := 3) (n := 1) F hW (k_J2_get g l σ23 _ _ _ _ (pB v q) j25 (by omega)) (f24) rfl (List.mem_of_getElem? (i := 1) rfl) q693 q328 q330 q72 q332 (by decide +kernel) rfl ⟨⟨Nat.le_of_ble_eq_true rfl, Nat.le_of_ble_eq_true rfl⟩, ⟨(Nat.le_of_ble_eq_true rfl), (Nat.le_of_ble_eq_true rfl)⟩⟩ (Nat.le_of_ble_eq_true rfl) hl.1 rfl dX2_flow_84 cX_no (fun r41 σ41 H locs hp41 hW => ?_)
      obtain ⟨rfl, hs41⟩ := hp41
      rw [hs41] at hW
      refine W.eq (g2 := F0 m_ 89 ls (.ref (L (10 + (pB v q))) :: [])) rfl ?_
      refine s_cast_ F hW (C := RX4) (T := TX4) (N := 3) (f30) rfl q790 dX2_flow_89 ?_
      refine lv_iload_n F.x F.cd dX2_flow_92 rfl (lv_at hl 6 rfl) ?_
      refine lv_iload F.x F.cd dX2_flow_93 (lv_at hl 0 rfl) ?_
      refine a_isub (v := (nI (x - (min x (pR v q))))) F (pk_sub (by omega)) dX2_flow_95 ?_
      refine lv_aload_n F.x F.cd dX2_flow_96 rfl (lv_at hl 5 rfl) ?_
      refine lv_iload F.x F.cd dX2_flow_97 (lv_at hl 1 rfl) ?_
      refine s_callV (As := [.int (nI (tI v (pA v q)))]) (rest := [.int (nI (x - (min x (pR v q)))), .ref (L (10 + (pB v q)))]) (C := RX5) (T := TX5) (N := 7) (n := 1) F hW (k_X5_cleaned g l σ23 (L (100 + q)) (pA v q) (pB v q) (pM v q) (pV v q) (pR v q) (pD v q) (pL v q + x) (tI v (pA v q)) (f28) (by omega) (by omega)) (f28) rfl q890 q891 q892 q96 q893 rfl (by decide +kernel) rfl ⟨⟨Nat.le_of_ble_eq_true rfl, Nat.le_of_ble_eq_true rfl⟩, ⟨(Nat.le_of_ble_eq_true rfl), (Nat.le_of_ble_eq_true rfl)⟩⟩ (Nat.le_of_ble_eq_true rfl) hl.1 rfl dX2_flow_99 cX_no (fun r42 σ42 H locs hp42 hW => ?_)
      obtain ⟨rfl, hs42⟩ := hp42
      rw [hs42] at hW
      refine W.eq (g2 := F0 m_ 102 ls (.int (nI (clr (tI v (pA v q)) (pM v q))) :: .int (nI (x - (min x (pR v q)))) :: .ref (L (10 + (pB v q))) :: [])) rfl ?_
      refine s_callV (As := [.int (nI (x - (min x (pR v q)))), .int (nI (clr (tI v (pA v q)) (pM v q)))]) (rest := []) (C := RX4) (T := TX4) (N := 3) (n := 2) F hW (k_X4_fill g l σ23 (L (10 + (pB v q))) (tC v (pB v q)) (tK v (pB v q)) (tI v (pB v q)) (x - (min x (pR v q))) (clr (tI v (pA v q)) (pM v q)) (f30) ((hWk.2.2.2.2.1 (pB v q) hqb).2) ) (f30) rfl q1262 q1263 q1264 q94 q1265 rfl (by decide +kernel) rfl ⟨⟨Nat.le_of_ble_eq_true rfl, Nat.le_of_ble_eq_true rfl⟩, ⟨(Nat.le_of_ble_eq_true rfl), (Nat.le_of_ble_eq_true rfl)⟩⟩ (Nat.le_of_ble_eq_true rfl) hl.1 rfl dX2_flow_102 cX_no (fun r43 σ43 H locs hp43 hW => ?_)
      obtain ⟨rfl, hσ43⟩ := hp43
      refine W.eq (g2 := F0 m_ 105 ls ([])) rfl ?_
      have w44 : σ43 (L (10 + (pB v q))) = some (.inr (8, [.int (nI (tC v (pB v q))), .int (nI (tK v (pB v q) + (x - (min x (pR v q))))), .int (nI ((tI v (pB v q)) ||| (clr (tI v (pA v q)) (pM v q))))])) := by rw [hσ43]; exact sset_eq
      have f45 : σ43 (L 0) = some (.inr (1, [.ref (L 1), .ref (L 2), .int (nI (v 2)), .int (nI (v 3)), .int (nI (v 4)), .int (nI (v 5 + (min x (pR v q))))])) := by rw [hσ43, sset_ne (sto_ne f30 w23 (by simp))]; exact w23
      have f46 : σ43 (L 1) = some (.inr (2, [.int mcT, .ref (L 3), .int (nI (v 0))])) := by rw [hσ43, sset_ne (sto_ne f30 f24 (by simp))]; exact f24
      have j47 := IsList.setO (e := .inr (8, [.int (nI (tC v (pB v q))), .int (nI (tK v (pB v q) + (x - (min x (pR v q))))), .int (nI ((tI v (pB v q)) ||| (clr (tI v (pA v q)) (pM v q))))])) (j25) (f30) (by decide)
      rw [← hσ43] at j47
      have f48 : σ43 (L 2) = some (.inr (2, [.int mcP, .ref (L 4), .int (nI (v 1))])) := by rw [hσ43, sset_ne (sto_ne f30 f26 (by simp))]; exact f26
      have j49 := IsList.setO (e := .inr (8, [.int (nI (tC v (pB v q))), .int (nI (tK v (pB v q) + (x - (min x (pR v q))))), .int (nI ((tI v (pB v q)) ||| (clr (tI v (pA v q)) (pM v q))))])) (j27) (f30) (by decide)
      rw [← hσ43] at j49
      have f50 : σ43 (L (100 + q)) = some (.inr (9, [.int (nI (pA v q)), .int (nI (pB v q)), .int (nI (pM v q)), .int (nI (pV v q)), .int (nI (pR v q)), .int (nI (pD v q)), .int (nI (pL v q + x))])) := by rw [hσ43, sset_ne (sto_ne f30 f28 (by simp))]; exact f28
      have f51 : σ43 (L (10 + (pA v q))) = some (.inr (8, [.int (nI (tC v (pA v q))), .int (nI (tK v (pA v q) - x)), .int (nI (tI v (pA v q)))])) := by rw [hσ43, sset_ne (fun h => hqab (hWk.2.2.2.2.2.2.1 _ _ hqa hqb h))]; exact f29
      refine lv_aload_n F.x F.cd dX2_flow_105 rfl (lv_at hl 5 rfl) ?_
      refine lv_iload F.x F.cd dX2_flow_106 (lv_at hl 1 rfl) ?_
      refine s_callV (As := [.int (nI (tI v (pA v q)))]) (rest := []) (C := RX5) (T := TX5) (N := 7) (n := 1) F hW (k_X5_soil g l σ43 (L (100 + q)) (pA v q) (pB v q) (pM v q) (pV v q) (pR v q) (pD v q) (pL v q + x) (tI v (pA v q)) (f50) ((hWk.2.2.2.2.2.1 q hq).2) (by omega) (by omega)) (f50) rfl q1323 q1324 q1325 q96 q1326 rfl (by decide +kernel) rfl ⟨⟨Nat.le_of_ble_eq_true rfl, Nat.le_of_ble_eq_true rfl⟩, ⟨(Nat.le_of_ble_eq_true rfl), (Nat.le_of_ble_eq_true rfl)⟩⟩ (Nat.le_of_ble_eq_true rfl) hl.1 rfl dX2_flow_108 cX_no (fun r52 σ52 H locs hp52 hW => ?_)
      obtain ⟨rfl, hσ52⟩ := hp52
      refine W.eq (g2 := F0 m_ 111 ls ([])) rfl ?_
      have w53 : σ52 (L (100 + q)) = some (.inr (9, [.int (nI (pA v q)), .int (nI (pB v q)), .int (nI (pM v q)), .int (nI (pV v q)), .int (nI (pR v q)), .int (nI (min 20 (pD v q + pops ((tI v (pA v q)) &&& (pM v q))))), .int (nI (pL v q + x))])) := by rw [hσ52]; exact sset_eq
      have f54 : σ52 (L 0) = some (.inr (1, [.ref (L 1), .ref (L 2), .int (nI (v 2)), .int (nI (v 3)), .int (nI (v 4)), .int (nI (v 5 + (min x (pR v q))))])) := by rw [hσ52, sset_ne (sto_ne f50 f45 (by simp))]; exact f45
      have f55 : σ52 (L 1) = some (.inr (2, [.int mcT, .ref (L 3), .int (nI (v 0))])) := by rw [hσ52, sset_ne (sto_ne f50 f46 (by simp))]; exact f46
      have j56 := IsList.setO (e := .inr (9, [.int (nI (pA v q)), .int (nI (pB v q)), .int (nI (pM v q)), .int (nI (pV v q)), .int (nI (pR v q)), .int (nI (min 20 (pD v q + pops ((tI v (pA v q)) &&& (pM v q))))), .int (nI (pL v q + x))])) (j47) (f50) (by decide)
      rw [← hσ52] at j56
      have f57 : σ52 (L 2) = some (.inr (2, [.int mcP, .ref (L 4), .int (nI (v 1))])) := by rw [hσ52, sset_ne (sto_ne f50 f48 (by simp))]; exact f48
      have j58 := IsList.setO (e := .inr (9, [.int (nI (pA v q)), .int (nI (pB v q)), .int (nI (pM v q)), .int (nI (pV v q)), .int (nI (pR v q)), .int (nI (min 20 (pD v q + pops ((tI v (pA v q)) &&& (pM v q))))), .int (nI (pL v q + x))])) (j49) (f50) (by decide)
      rw [← hσ52] at j58
      have f59 : σ52 (L (10 + (pA v q))) = some (.inr (8, [.int (nI (tC v (pA v q))), .int (nI (tK v (pA v q) - x)), .int (nI (tI v (pA v q)))])) := by rw [hσ52, sset_ne (sto_ne f50 f51 (by simp))]; exact f51
      have f60 : σ52 (L (10 + (pB v q))) = some (.inr (8, [.int (nI (tC v (pB v q))), .int (nI (tK v (pB v q) + (x - (min x (pR v q))))), .int (nI ((tI v (pB v q)) ||| (clr (tI v (pA v q)) (pM v q))))])) := by rw [hσ52, sset_ne (sto_ne f50 w44 (by simp))]; exact w44
      subst hQ
      exact s_retv F hW (⟨rfl, by rw [hσ52, hσ43, hσ23, hσ14, hσ4]; exact (fl_end hWk hq hqa hqb hI.1 (if_pos hf1) (if_pos hf1)).1 c_72, by rw [hσ52, hσ43, hσ23, hσ14, hσ4]; exact (((((Fr.refl.set (hWk.foT hqa)).set (hWk.foP hq)).set hWk.foW).set (hWk.foT hqb)).set (hWk.foP hq))⟩) ⟨(Nat.le_of_ble_eq_true rfl), (Nat.le_of_ble_eq_true rfl)⟩ dX2_flow_111
  · refine W.eq (g2 := F0 m_ 5 ls (.ref (gA g 5) :: [])) (by rw [if_neg hf1]) ?_
    refine lv_aload_n F.x F.cd dX2_flow_5 rfl (lv_at hl 1 rfl) ?_
    refine s_callB (owner := "FilterWaterworks$Direction") (As := [.ref (L (100 + q))]) (rest := []) (C := RX16) (T := TX4) (N := 0) (n := 1) F hW (k_X16_from g l σ (gA g 5) (L (100 + q)) (pA v q) (pB v q) (pM v q) (pV v q) (pR v q) (pD v q) (pL v q) ((hWk.2.2.2.2.2.1 q hq).1)) (hW.1.old F.cs F.cs.2.2.2.2.2.2.1) rfl q1310 q1312 q1316 q1317 q1318 q1311 (by decide +kernel) rfl ⟨⟨Nat.le_of_ble_eq_true rfl, Nat.le_of_ble_eq_true rfl⟩, ⟨(Nat.le_of_ble_eq_true rfl), (Nat.le_of_ble_eq_true rfl)⟩⟩ (Nat.le_of_ble_eq_true rfl) hl.1 rfl dX2_flow_6 cX_no (fun r61 σ61 H locs hp61 hW => ?_)
    obtain ⟨rfl, hs61⟩ := hp61
    rw [hs61] at hW
    refine W.eq (g2 := F0 m_ 9 ls (.int (nI (pB v q)) :: [])) rfl ?_
    refine lv_istore_n (lv' := [(3, .int (nI (pB v q))), (0, .ref (L 0)), (1, .ref (L (100 + q))), (2, .int (nI x))]) F.x F.cd dX2_flow_9 rfl hl (by decide) rfl (fun ls hl => ?_)
    refine lv_aload_n F.x F.cd dX2_flow_10 rfl (lv_at hl 1 rfl) ?_
    refine s_get F hW (ci := 1) (C := RX2) (T := TX2) (N := 6) (v := .ref (L 1)) (hWk.1) rfl in_X2 0 (by decide) q159 (fun _ h9 => h9) rfl dX2_flow_11 ?_
    refine lv_iload_n F.x F.cd dX2_flow_14 rfl (lv_at hl 0 rfl) ?_
    refine s_callF (As := [.int (nI (pB v q))]) (rest := []) (C := RJ2) (T := TJ2) (N := 3) (n := 1) F hW (k_J2_get g l σ _ _ _ _ (pB v q) hT (by omega)) (eT) rfl (List.mem_of_getElem? (i := 1) rfl) q693 q328 q330 q72 q332 (by decide +kernel) rfl ⟨⟨Nat.le_of_ble_eq_true rfl, Nat.le_of_ble_eq_true rfl⟩, ⟨(Nat.le_of_ble_eq_true rfl), (Nat.le_of_ble_eq_true rfl)⟩⟩ (Nat.le_of_ble_eq_true rfl) hl.1 rfl dX2_flow_15 cX_no (fun r62 σ62 H locs hp62 hW => ?_)
    obtain ⟨rfl, hs62⟩ := hp62
    rw [hs62] at hW
    refine W.eq (g2 := F0 m_ 20 ls (.ref (L (10 + (pB v q))) :: [])) rfl ?_
    refine s_cast_ F hW (C := RX4) (T := TX4) (N := 3) ((hWk.2.2.2.2.1 (pB v q) (by omega)).1) rfl q790 dX2_flow_20 ?_
    refine lv_astore (lv' := [(4, .ref (L (10 + (pB v q)))), (3, .int (nI (pB v q))), (0, .ref (L 0)), (1, .ref (L (100 + q))), (2, .int (nI x))]) F.x F.cd dX2_flow_23 hl (by decide) rfl (fun ls hl => ?_)
    refine lv_aload F.x F.cd dX2_flow_25 (lv_at hl 0 rfl) ?_
    refine s_getN F hW (ci := 8) (C := RX4) (T := TX4) (N := 3) (v := .int (nI (tI v (pB v q)))) ((hWk.2.2.2.2.1 (pB v q) (by omega)).1) rfl in_X4 2 (by decide) q954 (fun _ h9 => h9) rfl dX2_flow_27 ?_
    refine lv_istore (lv' := [(5, .int (nI (tI v (pB v q)))), (4, .ref (L (10 + (pB v q)))), (3, .int (nI (pB v q))), (0, .ref (L 0)), (1, .ref (L (100 + q))), (2, .int (nI x))]) F.x F.cd dX2_flow_30 hl (by decide) rfl (fun ls hl => ?_)
    refine lv_iload_n F.x F.cd dX2_flow_32 rfl (lv_at hl 5 rfl) ?_
    refine lv_aload_n F.x F.cd dX2_flow_33 rfl (lv_at hl 4 rfl) ?_
    refine s_getN F hW (ci := 9) (C := RX5) (T := TX5) (N := 7) (v := .int (nI (pR v q))) ((hWk.2.2.2.2.2.1 q hq).1) rfl in_X5 4 (by decide) q1082 (fun _ h9 => h9) rfl dX2_flow_34 ?_
    refine s_mmin (v := (nI (min x (pR v q)))) F q852 q453 q87 q454 hl.1 (Nat.le_of_ble_eq_true rfl) (Nat.le_of_ble_eq_true rfl) (Nat.le_of_ble_eq_true rfl) (Nat.le_of_ble_eq_true rfl) (nI_min (by omega) (by omega)) dX2_flow_37 ?_
    refine lv_istore (lv' := [(6, .int (nI (min x (pR v q)))), (5, .int (nI (tI v (pB v q)))), (4, .ref (L (10 + (pB v q)))), (3, .int (nI (pB v q))), (0, .ref (L 0)), (1, .ref (L (100 + q))), (2, .int (nI x))]) F.x F.cd dX2_flow_40 hl (by decide) rfl (fun ls hl => ?_)
    have hlx : x ≤ (tK v (pB v q) - tK v (pA v q)) / 2 := by rw [lit_b ho hf1] at hx2; omega
    refine lv_aload F.x F.cd dX2_flow_42 (lv_at hl 2 rfl) ?_
    refine lv_iload_n F.x F.cd dX2_flow_44 rfl (lv_at hl 6 rfl) ?_
    refine s_callV (As := [.int (nI x)]) (rest := []) (C := RX4) (T := TX4) (N := 3) (n := 1) F hW (k_X4_drain g l σ (L (10 + (pB v q))) (tC v (pB v q)) (tK v (pB v q)) (tI v (pB v q)) x ((hWk.2.2.2.2.1 (pB v q) (by omega)).1) ((hWk.2.2.2.2.1 (pB v q) (by omega)).2) (by omega) (by omega)) ((hWk.2.2.2.2.1 (pB v q) (by omega)).1) rfl q1270 q1271 q1272 q94 q1273 rfl (by decide +kernel) rfl ⟨⟨Nat.le_of_ble_eq_true rfl, Nat.le_of_ble_eq_true rfl⟩, ⟨(Nat.le_of_ble_eq_true rfl), (Nat.le_of_ble_eq_true rfl)⟩⟩ (Nat.le_of_ble_eq_true rfl) hl.1 rfl dX2_flow_45 cX_no (fun r63 σ63 H locs hp63 hW => ?_)
    obtain ⟨rfl, hσ63⟩ := hp63
    refine W.eq (g2 := F0 m_ 48 ls ([])) rfl ?_
    rw [if_neg (show ¬ tK v (pB v q) - x = 0 by omega)] at hσ63
    have w64 : σ63 (L (10 + (pB v q))) = some (.inr (8, [.int (nI (tC v (pB v q))), .int (nI (tK v (pB v q) - x)), .int (nI (tI v (pB v q)))])) := by rw [hσ63]; exact sset_eq
    have f65 : σ63 (L 0) = some (.inr (1, [.ref (L 1), .ref (L 2), .int (nI (v 2)), .int (nI (v 3)), .int (nI (v 4)), .int (nI (v 5))])) := by rw [hσ63, sset_ne (sto_ne ((hWk.2.2.2.2.1 (pB v q) (by omega)).1) hWk.1 (by simp))]; exact hWk.1
    have f66 : σ63 (L 1) = some (.inr (2, [.int mcT, .ref (L 3), .int (nI (v 0))])) := by rw [hσ63, sset_ne (sto_ne ((hWk.2.2.2.2.1 (pB v q) (by omega)).1) eT (by simp))]; exact eT
    have j67 := IsList.setO (e := .inr (8, [.int (nI (tC v (pB v q))), .int (nI (tK v (pB v q) - x)), .int (nI (tI v (pB v q)))])) (hT) ((hWk.2.2.2.2.1 (pB v q) (by omega)).1) (by decide)
    rw [← hσ63] at j67
    have f68 : σ63 (L 2) = some (.inr (2, [.int mcP, .ref (L 4), .int (nI (v 1))])) := by rw [hσ63, sset_ne (sto_ne ((hWk.2.2.2.2.1 (pB v q) (by omega)).1) eP (by simp))]; exact eP
    have j69 := IsList.setO (e := .inr (8, [.int (nI (tC v (pB v q))), .int (nI (tK v (pB v q) - x)), .int (nI (tI v (pB v q)))])) (hP) ((hWk.2.2.2.2.1 (pB v q) (by omega)).1) (by decide)
    rw [← hσ63] at j69
    have f70 : σ63 (L (100 + q)) = some (.inr (9, [.int (nI (pA v q)), .int (nI (pB v q)), .int (nI (pM v q)), .int (nI (pV v q)), .int (nI (pR v q)), .int (nI (pD v q)), .int (nI (pL v q))])) := by rw [hσ63, sset_ne (sto_ne ((hWk.2.2.2.2.1 (pB v q) (by omega)).1) ((hWk.2.2.2.2.2.1 q hq).1) (by simp))]; exact (hWk.2.2.2.2.2.1 q hq).1
    have f71 : σ63 (L (10 + (pA v q))) = some (.inr (8, [.int (nI (tC v (pA v q))), .int (nI (tK v (pA v q))), .int (nI (tI v (pA v q)))])) := by rw [hσ63, sset_ne (fun h => hqab (hWk.2.2.2.2.2.2.1 _ _ hqa hqb h))]; exact (hWk.2.2.2.2.1 (pA v q) hqa).1
    refine lv_aload_n F.x F.cd dX2_flow_48 rfl (lv_at hl 5 rfl) ?_
    refine lv_dup F.x F.cd dX2_flow_49 rfl ?_
    refine s_getN F hW (ci := 9) (C := RX5) (T := TX5) (N := 7) (v := .int (nI (pL v q))) (f70) rfl in_X5 6 (by decide) q1088 (fun _ h9 => h9) rfl dX2_flow_50 ?_
    refine lv_iload_n F.x F.cd dX2_flow_53 rfl (lv_at hl 6 rfl) ?_
    refine a_iadd (v := (nI (pL v q + x))) F (nI_add _ _) dX2_flow_54 ?_
    refine s_putN F hW (ci := 9) (C := RX5) (T := TX5) (N := 7) (v := .int (nI (pL v q + x))) (ty := .int) (f70) ((hWk.2.2.2.2.2.1 q hq).2) rfl in_X5 tyX5_ok nmX5 6 (by decide) q1088 (fun _ h9 => h9) rfl (by decide +kernel) rfl rfl (Nat.le_of_ble_eq_true rfl) dX2_flow_55 (fun H locs hW => ?_)
    obtain ⟨σ73, hσ73⟩ : ∃ z, z = sset σ63 (L (100 + q)) (.inr (9, [.int (nI (pA v q)), .int (nI (pB v q)), .int (nI (pM v q)), .int (nI (pV v q)), .int (nI (pR v q)), .int (nI (pD v q)), .int (nI (pL v q + x))])) := ⟨_, rfl⟩
    have hW : Hl g σ73 H locs := by rw [hσ73]; exact hW
    have w73 : σ73 (L (100 + q)) = some (.inr (9, [.int (nI (pA v q)), .int (nI (pB v q)), .int (nI (pM v q)), .int (nI (pV v q)), .int (nI (pR v q)), .int (nI (pD v q)), .int (nI (pL v q + x))])) := by rw [hσ73]; exact sset_eq
    have f74 : σ73 (L 0) = some (.inr (1, [.ref (L 1), .ref (L 2), .int (nI (v 2)), .int (nI (v 3)), .int (nI (v 4)), .int (nI (v 5))])) := by rw [hσ73, sset_ne (sto_ne f70 f65 (by simp))]; exact f65
    have f75 : σ73 (L 1) = some (.inr (2, [.int mcT, .ref (L 3), .int (nI (v 0))])) := by rw [hσ73, sset_ne (sto_ne f70 f66 (by simp))]; exact f66
    have j76 := IsList.setO (e := .inr (9, [.int (nI (pA v q)), .int (nI (pB v q)), .int (nI (pM v q)), .int (nI (pV v q)), .int (nI (pR v q)), .int (nI (pD v q)), .int (nI (pL v q + x))])) (j67) (f70) (by decide)
    rw [← hσ73] at j76
    have f77 : σ73 (L 2) = some (.inr (2, [.int mcP, .ref (L 4), .int (nI (v 1))])) := by rw [hσ73, sset_ne (sto_ne f70 f68 (by simp))]; exact f68
    have j78 := IsList.setO (e := .inr (9, [.int (nI (pA v q)), .int (nI (pB v q)), .int (nI (pM v q)), .int (nI (pV v q)), .int (nI (pR v q)), .int (nI (pD v q)), .int (nI (pL v q + x))])) (j69) (f70) (by decide)
    rw [← hσ73] at j78
    have f79 : σ73 (L (10 + (pB v q))) = some (.inr (8, [.int (nI (tC v (pB v q))), .int (nI (tK v (pB v q) - x)), .int (nI (tI v (pB v q)))])) := by rw [hσ73, sset_ne (sto_ne f70 w64 (by simp))]; exact w64
    have f80 : σ73 (L (10 + (pA v q))) = some (.inr (8, [.int (nI (tC v (pA v q))), .int (nI (tK v (pA v q))), .int (nI (tI v (pA v q)))])) := by rw [hσ73, sset_ne (sto_ne f70 f71 (by simp))]; exact f71
    refine lv_aload_n F.x F.cd dX2_flow_58 rfl (lv_at hl 4 rfl) ?_
    refine lv_dup F.x F.cd dX2_flow_59 rfl ?_
    refine s_get F hW (ci := 1) (C := RX2) (T := TX2) (N := 6) (v := .int (nI (v 5))) (f74) rfl in_X2 5 (by decide) q172 (fun _ h9 => h9) rfl dX2_flow_60 ?_
    refine lv_iload F.x F.cd dX2_flow_63 (lv_at hl 0 rfl) ?_
    refine a_iadd (v := (nI (v 5 + (min x (pR v q))))) F (nI_add _ _) dX2_flow_65 ?_
    refine s_put F hW (ci := 1) (C := RX2) (T := TX2) (N := 6) (v := .int (nI (v 5 + (min x (pR v q))))) (ty := .int) (f74) (hWk.2.1) rfl in_X2 tyX2_ok nmX2 5 (by decide) q172 (fun _ h9 => h9) rfl (by decide +kernel) rfl rfl (Nat.le_of_ble_eq_true rfl) dX2_flow_66 (fun H locs hW => ?_)
    obtain ⟨σ82, hσ82⟩ : ∃ z, z = sset σ73 (L 0) (.inr (1, [.ref (L 1), .ref (L 2), .int (nI (v 2)), .int (nI (v 3)), .int (nI (v 4)), .int (nI (v 5 + (min x (pR v q))))])) := ⟨_, rfl⟩
    have hW : Hl g σ82 H locs := by rw [hσ82]; exact hW
    have w82 : σ82 (L 0) = some (.inr (1, [.ref (L 1), .ref (L 2), .int (nI (v 2)), .int (nI (v 3)), .int (nI (v 4)), .int (nI (v 5 + (min x (pR v q))))])) := by rw [hσ82]; exact sset_eq
    have f83 : σ82 (L 1) = some (.inr (2, [.int mcT, .ref (L 3), .int (nI (v 0))])) := by rw [hσ82, sset_ne (sto_ne f74 f75 (by simp))]; exact f75
    have j84 := IsList.setO (e := .inr (1, [.ref (L 1), .ref (L 2), .int (nI (v 2)), .int (nI (v 3)), .int (nI (v 4)), .int (nI (v 5 + (min x (pR v q))))])) (j76) (f74) (by decide)
    rw [← hσ82] at j84
    have f85 : σ82 (L 2) = some (.inr (2, [.int mcP, .ref (L 4), .int (nI (v 1))])) := by rw [hσ82, sset_ne (sto_ne f74 f77 (by simp))]; exact f77
    have j86 := IsList.setO (e := .inr (1, [.ref (L 1), .ref (L 2), .int (nI (v 2)), .int (nI (v 3)), .int (nI (v 4)), .int (nI (v 5 + (min x (pR v q))))])) (j78) (f74) (by decide)
    rw [← hσ82] at j86
    have f87 : σ82 (L (100 + q)) = some (.inr (9, [.int (nI (pA v q)), .int (nI (pB v q)), .int (nI (pM v q)), .int (nI (pV v q)), .int (nI (pR v q)), .int (nI (pD v q)), .int (nI (pL v q + x))])) := by rw [hσ82, sset_ne (sto_ne f74 w73 (by simp))]; exact w73
    have f88 : σ82 (L (10 + (pB v q))) = some (.inr (8, [.int (nI (tC v (pB v q))), .int (nI (tK v (pB v q) - x)), .int (nI (tI v (pB v q)))])) := by rw [hσ82, sset_ne (sto_ne f74 f79 (by simp))]; exact f79
    have f89 : σ82 (L (10 + (pA v q))) = some (.inr (8, [.int (nI (tC v (pA v q))), .int (nI (tK v (pA v q))), .int (nI (tI v (pA v q)))])) := by rw [hσ82, sset_ne (sto_ne f74 f80 (by simp))]; exact f80
    refine lv_iload_n F.x F.cd dX2_flow_69 rfl (lv_at hl 6 rfl) ?_
    refine lv_iload F.x F.cd dX2_flow_70 (lv_at hl 0 rfl) ?_
    refine n_icmp_le (a := x) (b := min x (pR v q)) (tgt := 105) F (by omega) (by omega) dX2_flow_72 (by decide) (fun c_72 => ?_) (fun c_72 => ?_)
    · refine lv_aload_n F.x F.cd dX2_flow_105 rfl (lv_at hl 5 rfl) ?_
      refine lv_iload F.x F.cd dX2_flow_106 (lv_at hl 1 rfl) ?_
      refine s_callV (As := [.int (nI (tI v (pB v q)))]) (rest := []) (C := RX5) (T := TX5) (N := 7) (n := 1) F hW (k_X5_soil g l σ82 (L (100 + q)) (pA v q) (pB v q) (pM v q) (pV v q) (pR v q) (pD v q) (pL v q + x) (tI v (pB v q)) (f87) ((hWk.2.2.2.2.2.1 q hq).2) (by omega) (by omega)) (f87) rfl q1323 q1324 q1325 q96 q1326 rfl (by decide +kernel) rfl ⟨⟨Nat.le_of_ble_eq_true rfl, Nat.le_of_ble_eq_true rfl⟩, ⟨(Nat.le_of_ble_eq_true rfl), (Nat.le_of_ble_eq_true rfl)⟩⟩ (Nat.le_of_ble_eq_true rfl) hl.1 rfl dX2_flow_108 cX_no (fun r90 σ90 H locs hp90 hW => ?_)
      obtain ⟨rfl, hσ90⟩ := hp90
      refine W.eq (g2 := F0 m_ 111 ls ([])) rfl ?_
      have w91 : σ90 (L (100 + q)) = some (.inr (9, [.int (nI (pA v q)), .int (nI (pB v q)), .int (nI (pM v q)), .int (nI (pV v q)), .int (nI (pR v q)), .int (nI (min 20 (pD v q + pops ((tI v (pB v q)) &&& (pM v q))))), .int (nI (pL v q + x))])) := by rw [hσ90]; exact sset_eq
      have f92 : σ90 (L 0) = some (.inr (1, [.ref (L 1), .ref (L 2), .int (nI (v 2)), .int (nI (v 3)), .int (nI (v 4)), .int (nI (v 5 + (min x (pR v q))))])) := by rw [hσ90, sset_ne (sto_ne f87 w82 (by simp))]; exact w82
      have f93 : σ90 (L 1) = some (.inr (2, [.int mcT, .ref (L 3), .int (nI (v 0))])) := by rw [hσ90, sset_ne (sto_ne f87 f83 (by simp))]; exact f83
      have j94 := IsList.setO (e := .inr (9, [.int (nI (pA v q)), .int (nI (pB v q)), .int (nI (pM v q)), .int (nI (pV v q)), .int (nI (pR v q)), .int (nI (min 20 (pD v q + pops ((tI v (pB v q)) &&& (pM v q))))), .int (nI (pL v q + x))])) (j84) (f87) (by decide)
      rw [← hσ90] at j94
      have f95 : σ90 (L 2) = some (.inr (2, [.int mcP, .ref (L 4), .int (nI (v 1))])) := by rw [hσ90, sset_ne (sto_ne f87 f85 (by simp))]; exact f85
      have j96 := IsList.setO (e := .inr (9, [.int (nI (pA v q)), .int (nI (pB v q)), .int (nI (pM v q)), .int (nI (pV v q)), .int (nI (pR v q)), .int (nI (min 20 (pD v q + pops ((tI v (pB v q)) &&& (pM v q))))), .int (nI (pL v q + x))])) (j86) (f87) (by decide)
      rw [← hσ90] at j96
      have f97 : σ90 (L (10 + (pB v q))) = some (.inr (8, [.int (nI (tC v (pB v q))), .int (nI (tK v (pB v q) - x)), .int (nI (tI v (pB v q)))])) := by rw [hσ90, sset_ne (sto_ne f87 f88 (by simp))]; exact f88
      have f98 : σ90 (L (10 + (pA v q))) = some (.inr (8, [.int (nI (tC v (pA v q))), .int (nI (tK v (pA v q))), .int (nI (tI v (pA v q)))])) := by rw [hσ90, sset_ne (sto_ne f87 f89 (by simp))]; exact f89
      subst hQ
      exact s_retv F hW (⟨rfl, by rw [hσ90, hσ82, hσ73, hσ63]; exact (fl_end hWk hq hqb hqa hI.1 (if_neg hf1) (if_neg hf1)).2 c_72, by rw [hσ90, hσ82, hσ73, hσ63]; exact (((((Fr.refl.set (hWk.foT hqb)).set (hWk.foP hq)).set hWk.foW)).set (hWk.foP hq))⟩) ⟨(Nat.le_of_ble_eq_true rfl), (Nat.le_of_ble_eq_true rfl)⟩ dX2_flow_111
    · refine lv_aload_n F.x F.cd dX2_flow_75 rfl (lv_at hl 4 rfl) ?_
      refine s_get F hW (ci := 1) (C := RX2) (T := TX2) (N := 6) (v := .ref (L 1)) (w82) rfl in_X2 0 (by decide) q159 (fun _ h9 => h9) rfl dX2_flow_76 ?_
      refine lv_aload_n F.x F.cd dX2_flow_79 rfl (lv_at hl 5 rfl) ?_
      refine lv_iload_n F.x F.cd dX2_flow_80 rfl (lv_at hl 3 rfl) ?_
      refine s_callV (As := [.int (nI (pB v q))]) (rest := [.ref (L 1)]) (C := RX5) (T := TX5) (N := 7) (n := 1) F hW (k_X5_otherEnd g l σ82 (L (100 + q)) (pA v q) (pB v q) (pM v q) (pV v q) (pR v q) (pD v q) (pL v q + x) (pB v q) (f87) (by omega) (by omega)) (f87) rfl q851 q680 q681 q96 q682 rfl (by decide +kernel) rfl ⟨⟨Nat.le_of_ble_eq_true rfl, Nat.le_of_ble_eq_true rfl⟩, ⟨(Nat.le_of_ble_eq_true rfl), (Nat.le_of_ble_eq_true rfl)⟩⟩ (Nat.le_of_ble_eq_true rfl) hl.1 rfl dX2_flow_81 cX_no (fun r99 σ99 H locs hp99 hW => ?_)
      obtain ⟨rfl, hs99⟩ := hp99
      rw [hs99] at hW
      refine W.eq (g2 := F0 m_ 84 ls (.int (nI (pA v q)) :: .ref (L 1) :: [])) (by rw [oth_b hqab]; rfl) ?_
      refine s_callF (As := [.int (nI (pA v q))]) (rest := []) (C := RJ2) (T := TJ2) (N := 3) (n := 1) F hW (k_J2_get g l σ82 _ _ _ _ (pA v q) j84 (by omega)) (f83) rfl (List.mem_of_getElem? (i := 1) rfl) q693 q328 q330 q72 q332 (by decide +kernel) rfl ⟨⟨Nat.le_of_ble_eq_true rfl, Nat.le_of_ble_eq_true rfl⟩, ⟨(Nat.le_of_ble_eq_true rfl), (Nat.le_of_ble_eq_true rfl)⟩⟩ (Nat.le_of_ble_eq_true rfl) hl.1 rfl dX2_flow_84 cX_no (fun r100 σ100 H locs hp100 hW => ?_)
      obtain ⟨rfl, hs100⟩ := hp100
      rw [hs100] at hW
      refine W.eq (g2 := F0 m_ 89 ls (.ref (L (10 + (pA v q))) :: [])) rfl ?_
      refine s_cast_ F hW (C := RX4) (T := TX4) (N := 3) (f89) rfl q790 dX2_flow_89 ?_
      refine lv_iload_n F.x F.cd dX2_flow_92 rfl (lv_at hl 6 rfl) ?_
      refine lv_iload F.x F.cd dX2_flow_93 (lv_at hl 0 rfl) ?_
      refine a_isub (v := (nI (x - (min x (pR v q))))) F (pk_sub (by omega)) dX2_flow_95 ?_
      refine lv_aload_n F.x F.cd dX2_flow_96 rfl (lv_at hl 5 rfl) ?_
      refine lv_iload F.x F.cd dX2_flow_97 (lv_at hl 1 rfl) ?_
      refine s_callV (As := [.int (nI (tI v (pB v q)))]) (rest := [.int (nI (x - (min x (pR v q)))), .ref (L (10 + (pA v q)))]) (C := RX5) (T := TX5) (N := 7) (n := 1) F hW (k_X5_cleaned g l σ82 (L (100 + q)) (pA v q) (pB v q) (pM v q) (pV v q) (pR v q) (pD v q) (pL v q + x) (tI v (pB v q)) (f87) (by omega) (by omega)) (f87) rfl q890 q891 q892 q96 q893 rfl (by decide +kernel) rfl ⟨⟨Nat.le_of_ble_eq_true rfl, Nat.le_of_ble_eq_true rfl⟩, ⟨(Nat.le_of_ble_eq_true rfl), (Nat.le_of_ble_eq_true rfl)⟩⟩ (Nat.le_of_ble_eq_true rfl) hl.1 rfl dX2_flow_99 cX_no (fun r101 σ101 H locs hp101 hW => ?_)
      obtain ⟨rfl, hs101⟩ := hp101
      rw [hs101] at hW
      refine W.eq (g2 := F0 m_ 102 ls (.int (nI (clr (tI v (pB v q)) (pM v q))) :: .int (nI (x - (min x (pR v q)))) :: .ref (L (10 + (pA v q))) :: [])) rfl ?_
      refine s_callV (As := [.int (nI (x - (min x (pR v q)))), .int (nI (clr (tI v (pB v q)) (pM v q)))]) (rest := []) (C := RX4) (T := TX4) (N := 3) (n := 2) F hW (k_X4_fill g l σ82 (L (10 + (pA v q))) (tC v (pA v q)) (tK v (pA v q)) (tI v (pA v q)) (x - (min x (pR v q))) (clr (tI v (pB v q)) (pM v q)) (f89) ((hWk.2.2.2.2.1 (pA v q) hqa).2) ) (f89) rfl q1262 q1263 q1264 q94 q1265 rfl (by decide +kernel) rfl ⟨⟨Nat.le_of_ble_eq_true rfl, Nat.le_of_ble_eq_true rfl⟩, ⟨(Nat.le_of_ble_eq_true rfl), (Nat.le_of_ble_eq_true rfl)⟩⟩ (Nat.le_of_ble_eq_true rfl) hl.1 rfl dX2_flow_102 cX_no (fun r102 σ102 H locs hp102 hW => ?_)
      obtain ⟨rfl, hσ102⟩ := hp102
      refine W.eq (g2 := F0 m_ 105 ls ([])) rfl ?_
      have w103 : σ102 (L (10 + (pA v q))) = some (.inr (8, [.int (nI (tC v (pA v q))), .int (nI (tK v (pA v q) + (x - (min x (pR v q))))), .int (nI ((tI v (pA v q)) ||| (clr (tI v (pB v q)) (pM v q))))])) := by rw [hσ102]; exact sset_eq
      have f104 : σ102 (L 0) = some (.inr (1, [.ref (L 1), .ref (L 2), .int (nI (v 2)), .int (nI (v 3)), .int (nI (v 4)), .int (nI (v 5 + (min x (pR v q))))])) := by rw [hσ102, sset_ne (sto_ne f89 w82 (by simp))]; exact w82
      have f105 : σ102 (L 1) = some (.inr (2, [.int mcT, .ref (L 3), .int (nI (v 0))])) := by rw [hσ102, sset_ne (sto_ne f89 f83 (by simp))]; exact f83
      have j106 := IsList.setO (e := .inr (8, [.int (nI (tC v (pA v q))), .int (nI (tK v (pA v q) + (x - (min x (pR v q))))), .int (nI ((tI v (pA v q)) ||| (clr (tI v (pB v q)) (pM v q))))])) (j84) (f89) (by decide)
      rw [← hσ102] at j106
      have f107 : σ102 (L 2) = some (.inr (2, [.int mcP, .ref (L 4), .int (nI (v 1))])) := by rw [hσ102, sset_ne (sto_ne f89 f85 (by simp))]; exact f85
      have j108 := IsList.setO (e := .inr (8, [.int (nI (tC v (pA v q))), .int (nI (tK v (pA v q) + (x - (min x (pR v q))))), .int (nI ((tI v (pA v q)) ||| (clr (tI v (pB v q)) (pM v q))))])) (j86) (f89) (by decide)
      rw [← hσ102] at j108
      have f109 : σ102 (L (100 + q)) = some (.inr (9, [.int (nI (pA v q)), .int (nI (pB v q)), .int (nI (pM v q)), .int (nI (pV v q)), .int (nI (pR v q)), .int (nI (pD v q)), .int (nI (pL v q + x))])) := by rw [hσ102, sset_ne (sto_ne f89 f87 (by simp))]; exact f87
      have f110 : σ102 (L (10 + (pB v q))) = some (.inr (8, [.int (nI (tC v (pB v q))), .int (nI (tK v (pB v q) - x)), .int (nI (tI v (pB v q)))])) := by rw [hσ102, sset_ne (fun h => hqab (hWk.2.2.2.2.2.2.1 _ _ hqb hqa h).symm)]; exact f88
      refine lv_aload_n F.x F.cd dX2_flow_105 rfl (lv_at hl 5 rfl) ?_
      refine lv_iload F.x F.cd dX2_flow_106 (lv_at hl 1 rfl) ?_
      refine s_callV (As := [.int (nI (tI v (pB v q)))]) (rest := []) (C := RX5) (T := TX5) (N := 7) (n := 1) F hW (k_X5_soil g l σ102 (L (100 + q)) (pA v q) (pB v q) (pM v q) (pV v q) (pR v q) (pD v q) (pL v q + x) (tI v (pB v q)) (f109) ((hWk.2.2.2.2.2.1 q hq).2) (by omega) (by omega)) (f109) rfl q1323 q1324 q1325 q96 q1326 rfl (by decide +kernel) rfl ⟨⟨Nat.le_of_ble_eq_true rfl, Nat.le_of_ble_eq_true rfl⟩, ⟨(Nat.le_of_ble_eq_true rfl), (Nat.le_of_ble_eq_true rfl)⟩⟩ (Nat.le_of_ble_eq_true rfl) hl.1 rfl dX2_flow_108 cX_no (fun r111 σ111 H locs hp111 hW => ?_)
      obtain ⟨rfl, hσ111⟩ := hp111
      refine W.eq (g2 := F0 m_ 111 ls ([])) rfl ?_
      have w112 : σ111 (L (100 + q)) = some (.inr (9, [.int (nI (pA v q)), .int (nI (pB v q)), .int (nI (pM v q)), .int (nI (pV v q)), .int (nI (pR v q)), .int (nI (min 20 (pD v q + pops ((tI v (pB v q)) &&& (pM v q))))), .int (nI (pL v q + x))])) := by rw [hσ111]; exact sset_eq
      have f113 : σ111 (L 0) = some (.inr (1, [.ref (L 1), .ref (L 2), .int (nI (v 2)), .int (nI (v 3)), .int (nI (v 4)), .int (nI (v 5 + (min x (pR v q))))])) := by rw [hσ111, sset_ne (sto_ne f109 f104 (by simp))]; exact f104
      have f114 : σ111 (L 1) = some (.inr (2, [.int mcT, .ref (L 3), .int (nI (v 0))])) := by rw [hσ111, sset_ne (sto_ne f109 f105 (by simp))]; exact f105
      have j115 := IsList.setO (e := .inr (9, [.int (nI (pA v q)), .int (nI (pB v q)), .int (nI (pM v q)), .int (nI (pV v q)), .int (nI (pR v q)), .int (nI (min 20 (pD v q + pops ((tI v (pB v q)) &&& (pM v q))))), .int (nI (pL v q + x))])) (j106) (f109) (by decide)
      rw [← hσ111] at j115
      have f116 : σ111 (L 2) = some (.inr (2, [.int mcP, .ref (L 4), .int (nI (v 1))])) := by rw [hσ111, sset_ne (sto_ne f109 f107 (by simp))]; exact f107
      have j117 := IsList.setO (e := .inr (9, [.int (nI (pA v q)), .int (nI (pB v q)), .int (nI (pM v q)), .int (nI (pV v q)), .int (nI (pR v q)), .int (nI (min 20 (pD v q + pops ((tI v (pB v q)) &&& (pM v q))))), .int (nI (pL v q + x))])) (j108) (f109) (by decide)
      rw [← hσ111] at j117
      have f118 : σ111 (L (10 + (pB v q))) = some (.inr (8, [.int (nI (tC v (pB v q))), .int (nI (tK v (pB v q) - x)), .int (nI (tI v (pB v q)))])) := by rw [hσ111, sset_ne (sto_ne f109 f110 (by simp))]; exact f110
      have f119 : σ111 (L (10 + (pA v q))) = some (.inr (8, [.int (nI (tC v (pA v q))), .int (nI (tK v (pA v q) + (x - (min x (pR v q))))), .int (nI ((tI v (pA v q)) ||| (clr (tI v (pB v q)) (pM v q))))])) := by rw [hσ111, sset_ne (sto_ne f109 w103 (by simp))]; exact w103
      subst hQ
      exact s_retv F hW (⟨rfl, by rw [hσ111, hσ102, hσ82, hσ73, hσ63]; exact (fl_end hWk hq hqb hqa hI.1 (if_neg hf1) (if_neg hf1)).1 c_72, by rw [hσ111, hσ102, hσ82, hσ73, hσ63]; exact (((((Fr.refl.set (hWk.foT hqb)).set (hWk.foP hq)).set hWk.foW).set (hWk.foT hqa)).set (hWk.foP hq))⟩) ⟨(Nat.le_of_ble_eq_true rfl), (Nat.le_of_ble_eq_true rfl)⟩ dX2_flow_111
set_option maxHeartbeats 4000000 in
theorem k_X2_passMinute (g : Gh) (l : Launch) (σ : Sto) (L v : Nat → Nat) (hWk : IsWorks g σ L v) (hI : Inv v) : Ct g l yX2_passMinute cX2_passMinute 3 none ({ frames := 5, cells := 0, slots := 0, locals := 112 } : Room) [.ref (L 0)] σ (fun r σ' => r = none ∧ IsWorks g σ' L (minv v) ∧ Fr g σ σ' L v) (nox) := by
  refine Ct.body (by decide) (Nat.le_of_ble_eq_true rfl) ?_
  intro p_ e_ s_ m_ args_ below_ meth_ c_ ls H locs Q F hW hl hQ
  have hl : lv_has ls 3 [(0, .ref (L 0))] := hl
  have hT := hWk.2.2.1
  have hP := hWk.2.2.2.1
  obtain ⟨mcT, nT, fT, eT, bT, -⟩ := id hT
  obtain ⟨mcP, nP, fP, eP, bP, -⟩ := id hP
  have hv0 := hI.1
  have hv1 := hI.2.1
  refine lv_aload_n F.x F.cd dX2_passMinute_0 rfl (lv_at hl 0 rfl) ?_
  refine lv_dup F.x F.cd dX2_passMinute_1 rfl ?_
  refine s_get F hW (ci := 1) (C := RX2) (T := TX2) (N := 6) (v := .int (nI (v 2))) (hWk.1) rfl in_X2 2 (by decide) q166 (fun _ h9 => h9) rfl dX2_passMinute_2 ?_
  refine lv_iconst (v := (nI 1)) F.x F.cd dX2_passMinute_5 (by decide) ?_
  refine a_iadd (v := (nI (v 2 + 1))) F (nI_add _ _) dX2_passMinute_6 ?_
  refine s_put F hW (ci := 1) (C := RX2) (T := TX2) (N := 6) (v := .int (nI (v 2 + 1))) (ty := .int) (hWk.1) (hWk.2.1) rfl in_X2 tyX2_ok nmX2 2 (by decide) q166 (fun _ h9 => h9) rfl (by decide +kernel) rfl rfl (Nat.le_of_ble_eq_true rfl) dX2_passMinute_7 (fun H locs hW => ?_)
  obtain ⟨σ2, hσ2⟩ : ∃ z, z = sset σ (L 0) (.inr (1, [.ref (L 1), .ref (L 2), .int (nI (v 2 + 1)), .int (nI (v 3)), .int (nI (v 4)), .int (nI (v 5))])) := ⟨_, rfl⟩
  have hW : Hl g σ2 H locs := by rw [hσ2]; exact hW
  have w2 : σ2 (L 0) = some (.inr (1, [.ref (L 1), .ref (L 2), .int (nI (v 2 + 1)), .int (nI (v 3)), .int (nI (v 4)), .int (nI (v 5))])) := by rw [hσ2]; exact sset_eq
  have f3 : σ2 (L 1) = some (.inr (2, [.int mcT, .ref (L 3), .int (nI (v 0))])) := by rw [hσ2, sset_ne (sto_ne hWk.1 eT (by simp))]; exact eT
  have j4 := IsList.setO (e := .inr (1, [.ref (L 1), .ref (L 2), .int (nI (v 2 + 1)), .int (nI (v 3)), .int (nI (v 4)), .int (nI (v 5))])) (hT) (hWk.1) (by decide)
  rw [← hσ2] at j4
  have f5 : σ2 (L 2) = some (.inr (2, [.int mcP, .ref (L 4), .int (nI (v 1))])) := by rw [hσ2, sset_ne (sto_ne hWk.1 eP (by simp))]; exact eP
  have j6 := IsList.setO (e := .inr (1, [.ref (L 1), .ref (L 2), .int (nI (v 2 + 1)), .int (nI (v 3)), .int (nI (v 4)), .int (nI (v 5))])) (hP) (hWk.1) (by decide)
  rw [← hσ2] at j6
  have hW0 : IsWorks g σ2 L (flowsN v 0) := by rw [hσ2]; exact hWk.setW hI.1
  have hF0 : Fr g σ σ2 L v := by rw [hσ2]; exact Fr.refl.set hWk.foW
  refine lv_iconst (v := (nI 0)) F.x F.cd dX2_passMinute_10 (by decide) ?_
  refine lv_istore_n (lv' := [(1, .int (nI 0)), (0, .ref (L 0))]) F.x F.cd dX2_passMinute_11 rfl hl (by decide) rfl (fun ls hl => ?_)
  have loop12 : ∀ (n : Nat) (k : Nat) (σk : Sto), k + n = v 1 → IsWorks g σk L (flowsN v k) → Fr g σ σk L v → ∀ (H : Heap) (locs : List Loc) (ls : Array Slot), Hl g σk H locs → lv_has ls 3 [(0, .ref (L 0)), (1, .int (nI k))] → W p_ l e_ ({ frames := 5, cells := 0, slots := 0, locals := 112 } : Room) s_ m_ args_ below_ meth_ c_ H locs 0 0 Q (F0 m_ 12 ls ([])) := by
    intro n
    induction n with
    | zero =>
      intro k σk hkn hWn hFn H locs ls hW hl
      have hIn := inv_flowsN hI k (by omega)
      have z0 : flowsN v k 0 = v 0 := flowsN_0 (by omega)
      have z1 : flowsN v k 1 = v 1 := flowsN_0 (by omega)
      have hT_k := hWn.2.2.1
      have hP_k := hWn.2.2.2.1
      obtain ⟨mcT_k, nT_k, fT_k, eT_k, bT_k, -⟩ := id hT_k
      obtain ⟨mcP_k, nP_k, fP_k, eP_k, bP_k, -⟩ := id hP_k
      have hv0_k := hIn.1
      have hv1_k := hIn.2.1
      refine lv_iload_n F.x F.cd dX2_passMinute_12 rfl (lv_at hl 1 rfl) ?_
      refine lv_aload_n F.x F.cd dX2_passMinute_13 rfl (lv_at hl 0 rfl) ?_
      refine s_get F hW (ci := 1) (C := RX2) (T := TX2) (N := 6) (v := .ref (L 2)) (hWn.1) rfl in_X2 1 (by decide) q162 (fun _ h9 => h9) rfl dX2_passMinute_14 ?_
      refine s_callF (As := []) (rest := [.int (nI k)]) (C := RJ2) (T := TJ2) (N := 3) (n := 0) F hW (k_J2_size g l σk _ _ _ _ hP_k) (eP_k) rfl (List.mem_of_getElem? (i := 0) rfl) q317 q272 q274 q72 q276 (by decide +kernel) rfl ⟨⟨Nat.le_of_ble_eq_true rfl, Nat.le_of_ble_eq_true rfl⟩, ⟨(Nat.le_of_ble_eq_true rfl), (Nat.le_of_ble_eq_true rfl)⟩⟩ (Nat.le_of_ble_eq_true rfl) hl.1 rfl dX2_passMinute_17 cX_no (fun r7 σ7 H locs hp7 hW => ?_)
      obtain ⟨rfl, hs7⟩ := hp7
      rw [hs7] at hW
      refine W.eq (g2 := F0 m_ 22 ls (.int (nI ((flowsN v k) 1)) :: .int (nI k) :: [])) rfl ?_
      refine n_icmp_ge (a := k) (b := (flowsN v k) 1) (tgt := 71) F (by omega) (by omega) dX2_passMinute_22 (by decide) (fun c_22 => ?_) (fun c_22 => ?_)
      · subst hQ
        exact s_retv F hW (⟨rfl, by rw [minv, ← show k = v 1 by omega]; exact hWn, hFn⟩) ⟨(Nat.le_of_ble_eq_true rfl), (Nat.le_of_ble_eq_true rfl)⟩ dX2_passMinute_71
      · exact absurd c_22 (by omega)
    | succ n ih12 =>
      intro k σk hkn hWn hFn H locs ls hW hl
      have hIn := inv_flowsN hI k (by omega)
      have z0 : flowsN v k 0 = v 0 := flowsN_0 (by omega)
      have z1 : flowsN v k 1 = v 1 := flowsN_0 (by omega)
      have hT_k := hWn.2.2.1
      have hP_k := hWn.2.2.2.1
      obtain ⟨mcT_k, nT_k, fT_k, eT_k, bT_k, -⟩ := id hT_k
      obtain ⟨mcP_k, nP_k, fP_k, eP_k, bP_k, -⟩ := id hP_k
      have hv0_k := hIn.1
      have hv1_k := hIn.2.1
      refine lv_iload_n F.x F.cd dX2_passMinute_12 rfl (lv_at hl 1 rfl) ?_
      refine lv_aload_n F.x F.cd dX2_passMinute_13 rfl (lv_at hl 0 rfl) ?_
      refine s_get F hW (ci := 1) (C := RX2) (T := TX2) (N := 6) (v := .ref (L 2)) (hWn.1) rfl in_X2 1 (by decide) q162 (fun _ h9 => h9) rfl dX2_passMinute_14 ?_
      refine s_callF (As := []) (rest := [.int (nI k)]) (C := RJ2) (T := TJ2) (N := 3) (n := 0) F hW (k_J2_size g l σk _ _ _ _ hP_k) (eP_k) rfl (List.mem_of_getElem? (i := 0) rfl) q317 q272 q274 q72 q276 (by decide +kernel) rfl ⟨⟨Nat.le_of_ble_eq_true rfl, Nat.le_of_ble_eq_true rfl⟩, ⟨(Nat.le_of_ble_eq_true rfl), (Nat.le_of_ble_eq_true rfl)⟩⟩ (Nat.le_of_ble_eq_true rfl) hl.1 rfl dX2_passMinute_17 cX_no (fun r8 σ8 H locs hp8 hW => ?_)
      obtain ⟨rfl, hs8⟩ := hp8
      rw [hs8] at hW
      refine W.eq (g2 := F0 m_ 22 ls (.int (nI ((flowsN v k) 1)) :: .int (nI k) :: [])) rfl ?_
      refine n_icmp_ge (a := k) (b := (flowsN v k) 1) (tgt := 71) F (by omega) (by omega) dX2_passMinute_22 (by decide) (fun c_22 => ?_) (fun c_22 => ?_)
      · exact absurd c_22 (by omega)
      · refine lv_aload_n F.x F.cd dX2_passMinute_25 rfl (lv_at hl 0 rfl) ?_
        refine lv_aload_n F.x F.cd dX2_passMinute_26 rfl (lv_at hl 0 rfl) ?_
        refine s_get F hW (ci := 1) (C := RX2) (T := TX2) (N := 6) (v := .ref (L 2)) (hWn.1) rfl in_X2 1 (by decide) q162 (fun _ h9 => h9) rfl dX2_passMinute_27 ?_
        refine lv_iload_n F.x F.cd dX2_passMinute_30 rfl (lv_at hl 1 rfl) ?_
        refine s_callF (As := [.int (nI k)]) (rest := [.ref (L 0)]) (C := RJ2) (T := TJ2) (N := 3) (n := 1) F hW (k_J2_get g l σk _ _ _ _ k hP_k (by omega)) (eP_k) rfl (List.mem_of_getElem? (i := 1) rfl) q693 q328 q330 q72 q332 (by decide +kernel) rfl ⟨⟨Nat.le_of_ble_eq_true rfl, Nat.le_of_ble_eq_true rfl⟩, ⟨(Nat.le_of_ble_eq_true rfl), (Nat.le_of_ble_eq_true rfl)⟩⟩ (Nat.le_of_ble_eq_true rfl) hl.1 rfl dX2_passMinute_31 cX_no (fun r9 σ9 H locs hp9 hW => ?_)
        obtain ⟨rfl, hs9⟩ := hp9
        rw [hs9] at hW
        refine W.eq (g2 := F0 m_ 36 ls (.ref (L (100 + k)) :: .ref (L 0) :: [])) rfl ?_
        refine s_cast_ F hW (C := RX5) (T := TX5) (N := 7) ((hWn.2.2.2.2.2.1 k (by omega)).1) rfl q694 dX2_passMinute_36 ?_
        refine s_callV (As := [.ref (L (100 + k))]) (rest := []) (C := RX2) (T := TX2) (N := 6) (n := 1) F hW (k_X2_litres g l σk L (flowsN v k) k hWn hIn (by omega)) (hWn.1) rfl q1298 q1299 q1300 q69 q1301 rfl (by decide +kernel) rfl ⟨⟨Nat.le_of_ble_eq_true rfl, Nat.le_of_ble_eq_true rfl⟩, ⟨(Nat.le_of_ble_eq_true rfl), (Nat.le_of_ble_eq_true rfl)⟩⟩ (Nat.le_of_ble_eq_true rfl) hl.1 rfl dX2_passMinute_39 cX_no (fun r10 σ10 H locs hp10 hW => ?_)
        obtain ⟨rfl, hs10⟩ := hp10
        rw [hs10] at hW
        have hlt10 := lit_le hIn (show k < (flowsN v k) 1 by omega)
        refine W.eq (g2 := F0 m_ 42 ls (.int (nI (lit (flowsN v k) k)) :: [])) rfl ?_
        refine lv_istore_n (lv' := [(2, .int (nI (lit (flowsN v k) k))), (0, .ref (L 0)), (1, .int (nI k))]) F.x F.cd dX2_passMinute_42 rfl hl (by decide) rfl (fun ls hl => ?_)
        refine lv_iload_n F.x F.cd dX2_passMinute_43 rfl (lv_at hl 0 rfl) ?_
        refine n_if_le (a := lit (flowsN v k) k) (tgt := 65) F (by omega) dX2_passMinute_44 (by decide) (fun c_44 => ?_) (fun c_44 => ?_)
        · refine lv_iinc (k := 2) (v := (nI (k + 1))) (lv' := [(1, .int (nI (k + 1))), (2, .int (nI (lit (flowsN v k) k))), (0, .ref (L 0))]) F.x F.cd dX2_passMinute_65 hl rfl (inc_nI k 1) (by decide) rfl (fun ls hl => ?_)
          refine lv_goto (tgt := 12) F.x F.cd dX2_passMinute_68 (by decide) ?_
          exact ih12 (k + 1) σk (by omega) (by rw [flowsN, if_neg (by omega)]; exact hWn) (hFn) H locs ls hW (lv_sub hl [2, 0] rfl)
        · refine lv_aload_n F.x F.cd dX2_passMinute_47 rfl (lv_at hl 1 rfl) ?_
          refine lv_aload_n F.x F.cd dX2_passMinute_48 rfl (lv_at hl 1 rfl) ?_
          refine s_get F hW (ci := 1) (C := RX2) (T := TX2) (N := 6) (v := .ref (L 2)) (hWn.1) rfl in_X2 1 (by decide) q162 (fun _ h9 => h9) rfl dX2_passMinute_49 ?_
          refine lv_iload_n F.x F.cd dX2_passMinute_52 rfl (lv_at hl 2 rfl) ?_
          refine s_callF (As := [.int (nI k)]) (rest := [.ref (L 0)]) (C := RJ2) (T := TJ2) (N := 3) (n := 1) F hW (k_J2_get g l σk _ _ _ _ k hP_k (by omega)) (eP_k) rfl (List.mem_of_getElem? (i := 1) rfl) q693 q328 q330 q72 q332 (by decide +kernel) rfl ⟨⟨Nat.le_of_ble_eq_true rfl, Nat.le_of_ble_eq_true rfl⟩, ⟨(Nat.le_of_ble_eq_true rfl), (Nat.le_of_ble_eq_true rfl)⟩⟩ (Nat.le_of_ble_eq_true rfl) hl.1 rfl dX2_passMinute_53 cX_no (fun r11 σ11 H locs hp11 hW => ?_)
          obtain ⟨rfl, hs11⟩ := hp11
          rw [hs11] at hW
          refine W.eq (g2 := F0 m_ 58 ls (.ref (L (100 + k)) :: .ref (L 0) :: [])) rfl ?_
          refine s_cast_ F hW (C := RX5) (T := TX5) (N := 7) ((hWn.2.2.2.2.2.1 k (by omega)).1) rfl q694 dX2_passMinute_58 ?_
          refine lv_iload_n F.x F.cd dX2_passMinute_61 rfl (lv_at hl 0 rfl) ?_
          refine s_callV (As := [.ref (L (100 + k)), .int (nI (lit (flowsN v k) k))]) (rest := []) (C := RX2) (T := TX2) (N := 6) (n := 2) F hW (k_X2_flow g l σk L (flowsN v k) k (lit (flowsN v k) k) hWn hIn (by omega) (by omega) (by omega)) (hWn.1) rfl q1319 q1321 qs14 q69 q1322 rfl (by decide +kernel) rfl ⟨⟨Nat.le_of_ble_eq_true rfl, Nat.le_of_ble_eq_true rfl⟩, ⟨(Nat.le_of_ble_eq_true rfl), (Nat.le_of_ble_eq_true rfl)⟩⟩ (Nat.le_of_ble_eq_true rfl) hl.1 rfl dX2_passMinute_62 cX_no (fun r12 σ12 H locs hp12 hW => ?_)
          obtain ⟨rfl, hWf, hFf⟩ := hp12
          refine W.eq (g2 := F0 m_ 65 ls ([])) rfl ?_
          refine lv_iinc (k := 2) (v := (nI (k + 1))) (lv' := [(1, .int (nI (k + 1))), (2, .int (nI (lit (flowsN v k) k))), (0, .ref (L 0))]) F.x F.cd dX2_passMinute_65 hl rfl (inc_nI k 1) (by decide) rfl (fun ls hl => ?_)
          refine lv_goto (tgt := 12) F.x F.cd dX2_passMinute_68 (by decide) ?_
          exact ih12 (k + 1) σ12 (by omega) (by rw [flowsN, if_pos (by omega)]; exact hWf) (hFn.trans hFf z0 z1) H locs ls hW (lv_sub hl [2, 0] rfl)
  exact loop12 (v 1) 0 _ (by omega) (hW0) (hF0) H locs ls hW (lv_sub hl [1, 0] rfl)
