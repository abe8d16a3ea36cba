/-! ===== Works: addTank, addPipe ===== -/
set_option maxRecDepth 100000
set_option maxHeartbeats 4000000 in
theorem k_X2_addTank (g : Gh) (l : Launch) (σ : Sto) (L v : Nat → Nat) (x : Int32) (hWk : IsWorks g σ L v) (hI : Inv v) : Ct g l yX2_addTank cX2_addTank 2 (some .int) ({ frames := 8, cells := 4, slots := 107, locals := 287 } : Room) [.ref (L 0), .int x] σ (fun r σ' => ∃ z v', tankR v x = .ok (z, v') ∧ r = some (.int z) ∧ Did g σ L v σ' v') (fun q E σ' => ∃ tx, tankR v x = .error tx ∧ thr g σ tx q E σ') := by
  refine Ct.body (by decide) (Nat.le_of_ble_eq_true rfl) ?_
  intro p_ e_ s_ m_ args_ below_ meth_ c_ ls H locs Q F hW hl hQ
  have hl : lv_has ls 2 [(0, .ref (L 0)), (1, .int x)] := hl
  have hT := hWk.2.2.1
  have hP := hWk.2.2.2.1
  obtain ⟨mcT, nT, fT, eT, bT, -⟩ := id hT
  obtain ⟨mcP, nP, fP, eP, bP, -⟩ := id hP
  have hv0 := hI.1
  have hv1 := hI.2.1
  have hW00 := hW
  refine lv_iload_n F.x F.cd dX2_addTank_0 rfl (lv_at hl 1 rfl) ?_
  refine lv_bipush (v := (nI 10)) F.x F.cd dX2_addTank_1 (by decide) ?_
  refine lv_sipush (v := (nI 999)) F.x F.cd dX2_addTank_3 (by decide) ?_
  refine s_callSN (As := [.int x, .int (nI 10), .int (nI 999)]) (rest := []) (n := 3) F hW (k_X1_isBetween g l σ x (nI 10) (nI 999)) q1206 q1207 q68 q1208 (by decide +kernel) rfl ⟨⟨Nat.le_of_ble_eq_true rfl, Nat.le_of_ble_eq_true rfl⟩, ⟨(Nat.le_of_ble_eq_true rfl), (Nat.le_of_ble_eq_true rfl)⟩⟩ (Nat.le_of_ble_eq_true rfl) hl.1 rfl dX2_addTank_6 cX_no (fun r1 σ1 H locs hp1 hW => ?_)
  obtain ⟨rfl, hs1⟩ := hp1
  rw [hs1] at hW
  refine W.eq (g2 := F0 m_ 9 ls (.int (bI (btw x (nI 10) (nI 999))) :: [])) rfl ?_
  refine s_ldcS F q1209 dX2_addTank_9 ?_
  refine s_callSN (As := [.int (bI (btw x (nI 10) (nI 999))), .ref (gS g "FilterWaterworks$Works" 64)]) (rest := []) (n := 2) F hW (k_X1_demand g l σ (btw x (nI 10) (nI 999)) (gS g "FilterWaterworks$Works" 64) "argument" ⟨"FilterWaterworks$Works", 64, q1209, rfl⟩) q1210 q1211 q68 q1212 (by decide +kernel) rfl ⟨⟨Nat.le_of_ble_eq_true rfl, Nat.le_of_ble_eq_true rfl⟩, ⟨(Nat.le_of_ble_eq_true rfl), (Nat.le_of_ble_eq_true rfl)⟩⟩ (Nat.le_of_ble_eq_true rfl) hl.1 rfl dX2_addTank_11 (by subst hQ; exact cX_out F ⟨(Nat.le_of_ble_eq_true rfl), (Nat.le_of_ble_eq_true rfl)⟩ (fun q9 E9 σ9 hp9 => ⟨"argument", by rw [tankR, if_neg (by rw [hp9.1]; decide)], hp9.2⟩)) (fun r2 σ2 H locs hp2 hW => ?_)
  obtain ⟨rfl, hs2, hd11⟩ := hp2
  rw [hs2] at hW
  refine W.eq (g2 := F0 m_ 14 ls ([])) rfl ?_
  refine lv_aload_n F.x F.cd dX2_addTank_14 rfl (lv_at hl 0 rfl) ?_
  refine s_get F hW (ci := 1) (C := RX2) (T := TX2) (N := 6) (v := .ref (L 1)) (hWk.1) rfl in_X2 0 (by decide) q159 (fun _ h9 => h9) rfl dX2_addTank_15 ?_
  refine s_callF (As := []) (rest := []) (C := RJ2) (T := TJ2) (N := 3) (n := 0) F hW (k_J2_size g l σ _ _ _ _ hT) (eT) rfl (List.mem_of_getElem? (i := 0) rfl) q317 q272 q274 q72 q276 (by decide +kernel) rfl ⟨⟨Nat.le_of_ble_eq_true rfl, Nat.le_of_ble_eq_true rfl⟩, ⟨(Nat.le_of_ble_eq_true rfl), (Nat.le_of_ble_eq_true rfl)⟩⟩ (Nat.le_of_ble_eq_true rfl) hl.1 rfl dX2_addTank_18 cX_no (fun r3 σ3 H locs hp3 hW => ?_)
  obtain ⟨rfl, hs3⟩ := hp3
  rw [hs3] at hW
  refine W.eq (g2 := F0 m_ 23 ls (.int (nI (v 0)) :: [])) rfl ?_
  refine lv_bipush (v := (nI 8)) F.x F.cd dX2_addTank_23 (by decide) ?_
  refine n_icmp_ge (a := v 0) (b := 8) (tgt := 32) F (by omega) (by omega) dX2_addTank_25 (by decide) (fun c_25 => ?_) (fun c_25 => ?_)
  · refine lv_iconst (v := (nI 0)) F.x F.cd dX2_addTank_32 (by decide) ?_
    refine W.eq (g2 := F0 m_ 33 ls (.int (bI (decide (v 0 < 8))) :: [])) (by rw [show decide (v 0 < 8) = false by simp; omega]; rfl) ?_
    refine s_ldcS F q1239 dX2_addTank_33 ?_
    refine s_callSN (As := [.int (bI (decide (v 0 < 8))), .ref (gS g "FilterWaterworks$Works" 70)]) (rest := []) (n := 2) F hW (k_X1_demand g l σ (decide (v 0 < 8)) (gS g "FilterWaterworks$Works" 70) "state" ⟨"FilterWaterworks$Works", 70, q1239, rfl⟩) q1210 q1211 q68 q1212 (by decide +kernel) rfl ⟨⟨Nat.le_of_ble_eq_true rfl, Nat.le_of_ble_eq_true rfl⟩, ⟨(Nat.le_of_ble_eq_true rfl), (Nat.le_of_ble_eq_true rfl)⟩⟩ (Nat.le_of_ble_eq_true rfl) hl.1 rfl dX2_addTank_35 (by subst hQ; exact cX_out F ⟨(Nat.le_of_ble_eq_true rfl), (Nat.le_of_ble_eq_true rfl)⟩ (fun q9 E9 σ9 hp9 => ⟨"state", by rw [tankR, if_pos hd11, if_neg (of_decide_eq_false hp9.1)], hp9.2⟩)) (fun r4 σ4 H locs hp4 hW => ?_)
    obtain ⟨rfl, hs4, hd35⟩ := hp4
    rw [hs4] at hW
    refine W.eq (g2 := F0 m_ 38 ls ([])) rfl ?_
    obtain ⟨n, hn1, hn2, rfl⟩ := (btw_iff (by decide) (by decide)).mp hd11
    refine lv_aload_n F.x F.cd dX2_addTank_38 rfl (lv_at hl 0 rfl) ?_
    refine s_get F hW (ci := 1) (C := RX2) (T := TX2) (N := 6) (v := .ref (L 1)) (hWk.1) rfl in_X2 0 (by decide) q159 (fun _ h9 => h9) rfl dX2_addTank_39 ?_
    refine s_new F hW 8 (C := RX4) (T := TX4) (N := 3) (fs := [.int (nI 0), .int (nI 0), .int (nI 0)]) rfl in_X4 tyX4_ok q790 q943 q94 (fun j hj => by rcases (show j = 0 ∨ j = 1 ∨ j = 2 by omega) with rfl | rfl | rfl <;> rfl) (Nat.le_of_ble_eq_true rfl) (Nat.le_of_ble_eq_true rfl) dX2_addTank_42 (fun q5_ H hb_q5_ hn_q5_ hW => ?_)
    obtain ⟨σ6, hσ6⟩ : ∃ z, z = sset σ q5_ (.inr (8, [.int (nI 0), .int (nI 0), .int (nI 0)])) := ⟨_, rfl⟩
    have hW : Hl g σ6 H locs := by rw [hσ6]; exact hW
    have w6 : σ6 q5_ = some (.inr (8, [.int (nI 0), .int (nI 0), .int (nI 0)])) := by rw [hσ6]; exact sset_eq
    have f7 : σ6 (L 0) = some (.inr (1, [.ref (L 1), .ref (L 2), .int (nI (v 2)), .int (nI (v 3)), .int (nI (v 4)), .int (nI (v 5))])) := by rw [hσ6, sset_ne (sto_ne0 hn_q5_ hWk.1)]; exact hWk.1
    have f8 : σ6 (L 1) = some (.inr (2, [.int mcT, .ref (L 3), .int (nI (v 0))])) := by rw [hσ6, sset_ne (sto_ne0 hn_q5_ eT)]; exact eT
    have j9 := IsList.new (e := .inr (8, [.int (nI 0), .int (nI 0), .int (nI 0)])) (hT) (hn_q5_)
    rw [← hσ6] at j9
    have f10 : σ6 (L 2) = some (.inr (2, [.int mcP, .ref (L 4), .int (nI (v 1))])) := by rw [hσ6, sset_ne (sto_ne0 hn_q5_ eP)]; exact eP
    have j11 := IsList.new (e := .inr (8, [.int (nI 0), .int (nI 0), .int (nI 0)])) (hP) (hn_q5_)
    rw [← hσ6] at j11
    refine lv_dup F.x F.cd dX2_addTank_45 rfl ?_
    refine lv_iload_n F.x F.cd dX2_addTank_46 rfl (lv_at hl 1 rfl) ?_
    refine s_callI (As := [.int (nI n)]) (rest := [.ref q5_, .ref (L 1)]) (n := 1) F hW (k_X4_init_2 g l σ6 q5_ n (w6) (hb_q5_)) q1240 q1241 q94 q1242 rfl (by decide +kernel) rfl ⟨⟨Nat.le_of_ble_eq_true rfl, Nat.le_of_ble_eq_true rfl⟩, ⟨(Nat.le_of_ble_eq_true rfl), (Nat.le_of_ble_eq_true rfl)⟩⟩ (Nat.le_of_ble_eq_true rfl) hl.1 rfl dX2_addTank_47 cX_no (fun r12 σ12 H locs hp12 hW => ?_)
    obtain ⟨rfl, rfl⟩ := hp12
    refine W.eq (g2 := F0 m_ 50 ls (.ref q5_ :: .ref (L 1) :: [])) rfl ?_
    obtain ⟨σ12, hσ12⟩ : ∃ z, z = sset σ6 q5_ (oTank n 0 0) := ⟨_, rfl⟩
    rw [← hσ12] at hW
    have w13 : σ12 q5_ = some (.inr (8, [.int (nI n), .int (nI 0), .int (nI 0)])) := by rw [hσ12]; exact sset_eq
    have f14 : σ12 (L 0) = some (.inr (1, [.ref (L 1), .ref (L 2), .int (nI (v 2)), .int (nI (v 3)), .int (nI (v 4)), .int (nI (v 5))])) := by rw [hσ12, sset_ne (sto_ne0 hn_q5_ hWk.1)]; exact f7
    have f15 : σ12 (L 1) = some (.inr (2, [.int mcT, .ref (L 3), .int (nI (v 0))])) := by rw [hσ12, sset_ne (sto_ne0 hn_q5_ eT)]; exact f8
    have j16 := IsList.setO (e := .inr (8, [.int (nI n), .int (nI 0), .int (nI 0)])) (j9) (w6) (by decide)
    rw [← hσ12] at j16
    have f17 : σ12 (L 2) = some (.inr (2, [.int mcP, .ref (L 4), .int (nI (v 1))])) := by rw [hσ12, sset_ne (sto_ne0 hn_q5_ eP)]; exact f10
    have j18 := IsList.setO (e := .inr (8, [.int (nI n), .int (nI 0), .int (nI 0)])) (j11) (w6) (by decide)
    rw [← hσ12] at j18
    refine s_callF (As := [.ref q5_]) (rest := []) (C := RJ2) (T := TJ2) (N := 3) (n := 1) F hW (k_J2_add g l σ12 (L 1) (L 3) (v 0) (fun t => L (10 + t)) q5_ 8 _ _ (j16) (w13) (by decide) rfl q2844 (by rw [hσ12, hσ6, sset_sset]; exact hWk.elmT.new hn_q5_) (by omega)) (f15) rfl (List.mem_of_getElem? (i := 2) rfl) q964 q967 q969 q72 q971 (by decide +kernel) rfl ⟨⟨Nat.le_of_ble_eq_true rfl, Nat.le_of_ble_eq_true rfl⟩, ⟨(Nat.le_of_ble_eq_true rfl), (Nat.le_of_ble_eq_true rfl)⟩⟩ (Nat.le_of_ble_eq_true rfl) hl.1 rfl dX2_addTank_50 cX_no (fun r19 σ19 H locs hp19 hW => ?_)
    obtain ⟨rfl, hadd⟩ := hp19
    refine W.eq (g2 := F0 m_ 55 ls (.int (nI 1) :: [])) rfl ?_
    rw [hσ12, hσ6, sset_sset] at hadd
    have hDid := addT hWk (of_decide_eq_true hd35) hn_q5_ hb_q5_ hadd (fun a ha => (hW.1.2.2.2 a ha).trans (hW00.1.2.2.2 a ha).symm) (F.cs.2.2.2.2.2.2.2.2 _ (by rw [F.cs.2.1]; simp))
    obtain ⟨L9, hW9, hL0, -, -⟩ := id hDid
    generalize hv9 : va_up (upT v (v 0) n 0 0) 0 (v 0 + 1) = v9 at hW9
    have hv90 : v9 0 = v 0 + 1 := by rw [← hv9, va_up_self]
    have hT9 := hW9.2.2.1
    have hP9 := hW9.2.2.2.1
    obtain ⟨mcT9, nT9, fT9, eT9, bT9, -⟩ := id hT9
    obtain ⟨mcP9, nP9, fP9, eP9, bP9, -⟩ := id hP9
    refine lv_pop F.x F.cd dX2_addTank_55 rfl ?_
    refine lv_aload_n F.x F.cd dX2_addTank_56 rfl (lv_at hl 0 rfl) ?_
    refine s_get F hW (ci := 1) (C := RX2) (T := TX2) (N := 6) (v := .ref (L9 1)) ((by rw [← hL0]; exact hW9.1)) rfl in_X2 0 (by decide) q159 (fun _ h9 => h9) rfl dX2_addTank_57 ?_
    refine s_callF (As := []) (rest := []) (C := RJ2) (T := TJ2) (N := 3) (n := 0) F hW (k_J2_size g l σ19 _ _ _ _ hT9) (eT9) rfl (List.mem_of_getElem? (i := 0) rfl) q317 q272 q274 q72 q276 (by decide +kernel) rfl ⟨⟨Nat.le_of_ble_eq_true rfl, Nat.le_of_ble_eq_true rfl⟩, ⟨(Nat.le_of_ble_eq_true rfl), (Nat.le_of_ble_eq_true rfl)⟩⟩ (Nat.le_of_ble_eq_true rfl) hl.1 rfl dX2_addTank_60 cX_no (fun r20 σ20 H locs hp20 hW => ?_)
    obtain ⟨rfl, hs20⟩ := hp20
    rw [hs20] at hW
    refine W.eq (g2 := F0 m_ 65 ls (.int (nI (v9 0)) :: [])) rfl ?_
    refine lv_iconst (v := (nI 1)) F.x F.cd dX2_addTank_65 (by decide) ?_
    refine a_isub (v := (nI (v 0))) F (by rw [hv90]; exact pk_sub (by omega)) dX2_addTank_66 ?_
    subst hQ
    exact s_reti (v := (nI (v 0))) F hW rfl (⟨_, _, by rw [tankR, if_pos hd11, if_pos (of_decide_eq_true hd35), cl_nI (by omega)], rfl, hDid⟩) ⟨(Nat.le_of_ble_eq_true rfl), (Nat.le_of_ble_eq_true rfl)⟩ dX2_addTank_67
  · refine lv_iconst (v := (nI 1)) F.x F.cd dX2_addTank_28 (by decide) ?_
    refine lv_goto (tgt := 33) F.x F.cd dX2_addTank_29 (by decide) ?_
    refine W.eq (g2 := F0 m_ 33 ls (.int (bI (decide (v 0 < 8))) :: [])) (by rw [show decide (v 0 < 8) = true by simp; omega]; rfl) ?_
    refine s_ldcS F q1239 dX2_addTank_33 ?_
    refine s_callSN (As := [.int (bI (decide (v 0 < 8))), .ref (gS g "FilterWaterworks$Works" 70)]) (rest := []) (n := 2) F hW (k_X1_demand g l σ (decide (v 0 < 8)) (gS g "FilterWaterworks$Works" 70) "state" ⟨"FilterWaterworks$Works", 70, q1239, rfl⟩) q1210 q1211 q68 q1212 (by decide +kernel) rfl ⟨⟨Nat.le_of_ble_eq_true rfl, Nat.le_of_ble_eq_true rfl⟩, ⟨(Nat.le_of_ble_eq_true rfl), (Nat.le_of_ble_eq_true rfl)⟩⟩ (Nat.le_of_ble_eq_true rfl) hl.1 rfl dX2_addTank_35 (by subst hQ; exact cX_out F ⟨(Nat.le_of_ble_eq_true rfl), (Nat.le_of_ble_eq_true rfl)⟩ (fun q9 E9 σ9 hp9 => ⟨"state", by rw [tankR, if_pos hd11, if_neg (of_decide_eq_false hp9.1)], hp9.2⟩)) (fun r21 σ21 H locs hp21 hW => ?_)
    obtain ⟨rfl, hs21, hd35⟩ := hp21
    rw [hs21] at hW
    refine W.eq (g2 := F0 m_ 38 ls ([])) rfl ?_
    obtain ⟨n, hn1, hn2, rfl⟩ := (btw_iff (by decide) (by decide)).mp hd11
    refine lv_aload_n F.x F.cd dX2_addTank_38 rfl (lv_at hl 0 rfl) ?_
    refine s_get F hW (ci := 1) (C := RX2) (T := TX2) (N := 6) (v := .ref (L 1)) (hWk.1) rfl in_X2 0 (by decide) q159 (fun _ h9 => h9) rfl dX2_addTank_39 ?_
    refine s_new F hW 8 (C := RX4) (T := TX4) (N := 3) (fs := [.int (nI 0), .int (nI 0), .int (nI 0)]) rfl in_X4 tyX4_ok q790 q943 q94 (fun j hj => by rcases (show j = 0 ∨ j = 1 ∨ j = 2 by omega) with rfl | rfl | rfl <;> rfl) (Nat.le_of_ble_eq_true rfl) (Nat.le_of_ble_eq_true rfl) dX2_addTank_42 (fun q22_ H hb_q22_ hn_q22_ hW => ?_)
    obtain ⟨σ23, hσ23⟩ : ∃ z, z = sset σ q22_ (.inr (8, [.int (nI 0), .int (nI 0), .int (nI 0)])) := ⟨_, rfl⟩
    have hW : Hl g σ23 H locs := by rw [hσ23]; exact hW
    have w23 : σ23 q22_ = some (.inr (8, [.int (nI 0), .int (nI 0), .int (nI 0)])) := by rw [hσ23]; exact sset_eq
    have f24 : σ23 (L 0) = some (.inr (1, [.ref (L 1), .ref (L 2), .int (nI (v 2)), .int (nI (v 3)), .int (nI (v 4)), .int (nI (v 5))])) := by rw [hσ23, sset_ne (sto_ne0 hn_q22_ hWk.1)]; exact hWk.1
    have f25 : σ23 (L 1) = some (.inr (2, [.int mcT, .ref (L 3), .int (nI (v 0))])) := by rw [hσ23, sset_ne (sto_ne0 hn_q22_ eT)]; exact eT
    have j26 := IsList.new (e := .inr (8, [.int (nI 0), .int (nI 0), .int (nI 0)])) (hT) (hn_q22_)
    rw [← hσ23] at j26
    have f27 : σ23 (L 2) = some (.inr (2, [.int mcP, .ref (L 4), .int (nI (v 1))])) := by rw [hσ23, sset_ne (sto_ne0 hn_q22_ eP)]; exact eP
    have j28 := IsList.new (e := .inr (8, [.int (nI 0), .int (nI 0), .int (nI 0)])) (hP) (hn_q22_)
    rw [← hσ23] at j28
    refine lv_dup F.x F.cd dX2_addTank_45 rfl ?_
    refine lv_iload_n F.x F.cd dX2_addTank_46 rfl (lv_at hl 1 rfl) ?_
    refine s_callI (As := [.int (nI n)]) (rest := [.ref q22_, .ref (L 1)]) (n := 1) F hW (k_X4_init_2 g l σ23 q22_ n (w23) (hb_q22_)) q1240 q1241 q94 q1242 rfl (by decide +kernel) rfl ⟨⟨Nat.le_of_ble_eq_true rfl, Nat.le_of_ble_eq_true rfl⟩, ⟨(Nat.le_of_ble_eq_true rfl), (Nat.le_of_ble_eq_true rfl)⟩⟩ (Nat.le_of_ble_eq_true rfl) hl.1 rfl dX2_addTank_47 cX_no (fun r29 σ29 H locs hp29 hW => ?_)
    obtain ⟨rfl, rfl⟩ := hp29
    refine W.eq (g2 := F0 m_ 50 ls (.ref q22_ :: .ref (L 1) :: [])) rfl ?_
    obtain ⟨σ29, hσ29⟩ : ∃ z, z = sset σ23 q22_ (oTank n 0 0) := ⟨_, rfl⟩
    rw [← hσ29] at hW
    have w30 : σ29 q22_ = some (.inr (8, [.int (nI n), .int (nI 0), .int (nI 0)])) := by rw [hσ29]; exact sset_eq
    have f31 : σ29 (L 0) = some (.inr (1, [.ref (L 1), .ref (L 2), .int (nI (v 2)), .int (nI (v 3)), .int (nI (v 4)), .int (nI (v 5))])) := by rw [hσ29, sset_ne (sto_ne0 hn_q22_ hWk.1)]; exact f24
    have f32 : σ29 (L 1) = some (.inr (2, [.int mcT, .ref (L 3), .int (nI (v 0))])) := by rw [hσ29, sset_ne (sto_ne0 hn_q22_ eT)]; exact f25
    have j33 := IsList.setO (e := .inr (8, [.int (nI n), .int (nI 0), .int (nI 0)])) (j26) (w23) (by decide)
    rw [← hσ29] at j33
    have f34 : σ29 (L 2) = some (.inr (2, [.int mcP, .ref (L 4), .int (nI (v 1))])) := by rw [hσ29, sset_ne (sto_ne0 hn_q22_ eP)]; exact f27
    have j35 := IsList.setO (e := .inr (8, [.int (nI n), .int (nI 0), .int (nI 0)])) (j28) (w23) (by decide)
    rw [← hσ29] at j35
    refine s_callF (As := [.ref q22_]) (rest := []) (C := RJ2) (T := TJ2) (N := 3) (n := 1) F hW (k_J2_add g l σ29 (L 1) (L 3) (v 0) (fun t => L (10 + t)) q22_ 8 _ _ (j33) (w30) (by decide) rfl q2844 (by rw [hσ29, hσ23, sset_sset]; exact hWk.elmT.new hn_q22_) (by omega)) (f32) rfl (List.mem_of_getElem? (i := 2) rfl) q964 q967 q969 q72 q971 (by decide +kernel) rfl ⟨⟨Nat.le_of_ble_eq_true rfl, Nat.le_of_ble_eq_true rfl⟩, ⟨(Nat.le_of_ble_eq_true rfl), (Nat.le_of_ble_eq_true rfl)⟩⟩ (Nat.le_of_ble_eq_true rfl) hl.1 rfl dX2_addTank_50 cX_no (fun r36 σ36 H locs hp36 hW => ?_)
    obtain ⟨rfl, hadd⟩ := hp36
    refine W.eq (g2 := F0 m_ 55 ls (.int (nI 1) :: [])) rfl ?_
    rw [hσ29, hσ23, sset_sset] at hadd
    have hDid := addT hWk (of_decide_eq_true hd35) hn_q22_ hb_q22_ hadd (fun a ha => (hW.1.2.2.2 a ha).trans (hW00.1.2.2.2 a ha).symm) (F.cs.2.2.2.2.2.2.2.2 _ (by rw [F.cs.2.1]; simp))
    obtain ⟨L9, hW9, hL0, -, -⟩ := id hDid
    generalize hv9 : va_up (upT v (v 0) n 0 0) 0 (v 0 + 1) = v9 at hW9
    have hv90 : v9 0 = v 0 + 1 := by rw [← hv9, va_up_self]
    have hT9 := hW9.2.2.1
    have hP9 := hW9.2.2.2.1
    obtain ⟨mcT9, nT9, fT9, eT9, bT9, -⟩ := id hT9
    obtain ⟨mcP9, nP9, fP9, eP9, bP9, -⟩ := id hP9
    refine lv_pop F.x F.cd dX2_addTank_55 rfl ?_
    refine lv_aload_n F.x F.cd dX2_addTank_56 rfl (lv_at hl 0 rfl) ?_
    refine s_get F hW (ci := 1) (C := RX2) (T := TX2) (N := 6) (v := .ref (L9 1)) ((by rw [← hL0]; exact hW9.1)) rfl in_X2 0 (by decide) q159 (fun _ h9 => h9) rfl dX2_addTank_57 ?_
    refine s_callF (As := []) (rest := []) (C := RJ2) (T := TJ2) (N := 3) (n := 0) F hW (k_J2_size g l σ36 _ _ _ _ hT9) (eT9) rfl (List.mem_of_getElem? (i := 0) rfl) q317 q272 q274 q72 q276 (by decide +kernel) rfl ⟨⟨Nat.le_of_ble_eq_true rfl, Nat.le_of_ble_eq_true rfl⟩, ⟨(Nat.le_of_ble_eq_true rfl), (Nat.le_of_ble_eq_true rfl)⟩⟩ (Nat.le_of_ble_eq_true rfl) hl.1 rfl dX2_addTank_60 cX_no (fun r37 σ37 H locs hp37 hW => ?_)
    obtain ⟨rfl, hs37⟩ := hp37
    rw [hs37] at hW
    refine W.eq (g2 := F0 m_ 65 ls (.int (nI (v9 0)) :: [])) rfl ?_
    refine lv_iconst (v := (nI 1)) F.x F.cd dX2_addTank_65 (by decide) ?_
    refine a_isub (v := (nI (v 0))) F (by rw [hv90]; exact pk_sub (by omega)) dX2_addTank_66 ?_
    subst hQ
    exact s_reti (v := (nI (v 0))) F hW rfl (⟨_, _, by rw [tankR, if_pos hd11, if_pos (of_decide_eq_true hd35), cl_nI (by omega)], rfl, hDid⟩) ⟨(Nat.le_of_ble_eq_true rfl), (Nat.le_of_ble_eq_true rfl)⟩ dX2_addTank_67
set_option maxHeartbeats 4000000 in
theorem k_X2_addPipe (g : Gh) (l : Launch) (σ : Sto) (L v : Nat → Nat) (x y s : Int32) (hWk : IsWorks g σ L v) (hI : Inv v) : Ct g l yX2_addPipe cX2_addPipe 4 (some .int) ({ frames := 8, cells := 5, slots := 118, locals := 287 } : Room) [.ref (L 0), .int x, .int y, .int s] σ (fun r σ' => ∃ z v', pipeR v x y s = .ok (z, v') ∧ r = some (.int z) ∧ Did g σ L v σ' v') (fun q E σ' => ∃ tx, pipeR v x y s = .error tx ∧ thr g σ tx q E σ') := by
  refine Ct.body (by decide) (Nat.le_of_ble_eq_true rfl) ?_
  intro p_ e_ s_ m_ args_ below_ meth_ c_ ls H locs Q F hW hl hQ
  have hl : lv_has ls 4 [(0, .ref (L 0)), (1, .int x), (2, .int y), (3, .int s)] := hl
  have hT := hWk.2.2.1
  have hP := hWk.2.2.2.1
  obtain ⟨mcT, nT, fT, eT, bT, -⟩ := id hT
  obtain ⟨mcP, nP, fP, eP, bP, -⟩ := id hP
  have hv0 := hI.1
  have hv1 := hI.2.1
  have hW00 := hW
  refine lv_aload_n F.x F.cd dX2_addPipe_0 rfl (lv_at hl 0 rfl) ?_
  refine lv_iload_n F.x F.cd dX2_addPipe_1 rfl (lv_at hl 1 rfl) ?_
  refine s_callV (As := [.int x]) (rest := []) (C := RX2) (T := TX2) (N := 6) (n := 1) F hW (k_X2_hasTank g l σ L v x hWk hI) (hWk.1) rfl q1247 q1248 q1249 q69 q1250 rfl (by decide +kernel) rfl ⟨⟨Nat.le_of_ble_eq_true rfl, Nat.le_of_ble_eq_true rfl⟩, ⟨(Nat.le_of_ble_eq_true rfl), (Nat.le_of_ble_eq_true rfl)⟩⟩ (Nat.le_of_ble_eq_true rfl) hl.1 rfl dX2_addPipe_2 cX_no (fun r1 σ1 H locs hp1 hW => ?_)
  obtain ⟨rfl, hs1⟩ := hp1
  rw [hs1] at hW
  refine W.eq (g2 := F0 m_ 5 ls (.int (bI (inN x (v 0))) :: [])) rfl ?_
  refine b_if_eq (b := (inN x (v 0))) (tgt := 20) F dX2_addPipe_5 (by decide) (fun c_5 => ?_) (fun c_5 => ?_)
  · refine lv_iconst (v := (nI 0)) F.x F.cd dX2_addPipe_20 (by decide) ?_
    refine W.eq (g2 := F0 m_ 21 ls (.int (bI (inN x (v 0) && inN y (v 0))) :: [])) (by rw [show (inN x (v 0) && inN y (v 0)) = false by simp [c_5]]; rfl) ?_
    refine s_ldcS F q1251 dX2_addPipe_21 ?_
    refine s_callSN (As := [.int (bI (inN x (v 0) && inN y (v 0))), .ref (gS g "FilterWaterworks$Works" 79)]) (rest := []) (n := 2) F hW (k_X1_demand g l σ (inN x (v 0) && inN y (v 0)) (gS g "FilterWaterworks$Works" 79) "index" ⟨"FilterWaterworks$Works", 79, q1251, rfl⟩) q1210 q1211 q68 q1212 (by decide +kernel) rfl ⟨⟨Nat.le_of_ble_eq_true rfl, Nat.le_of_ble_eq_true rfl⟩, ⟨(Nat.le_of_ble_eq_true rfl), (Nat.le_of_ble_eq_true rfl)⟩⟩ (Nat.le_of_ble_eq_true rfl) hl.1 rfl dX2_addPipe_23 (by subst hQ; exact cX_out F ⟨(Nat.le_of_ble_eq_true rfl), (Nat.le_of_ble_eq_true rfl)⟩ (fun q9 E9 σ9 hp9 => ⟨"index", by rw [pipeR, if_neg (by rw [hp9.1]; decide)], hp9.2⟩)) (fun r2 σ2 H locs hp2 hW => ?_)
    obtain ⟨rfl, hs2, hd23⟩ := hp2
    rw [hs2] at hW
    refine W.eq (g2 := F0 m_ 26 ls ([])) rfl ?_
    refine lv_iload_n F.x F.cd dX2_addPipe_26 rfl (lv_at hl 1 rfl) ?_
    refine lv_iload_n F.x F.cd dX2_addPipe_27 rfl (lv_at hl 2 rfl) ?_
    refine lv_icmp_eq (x := x) (y := y) (tgt := 42) F.x F.cd dX2_addPipe_28 (by decide) (fun c_28 => ?_) (fun c_28 => ?_)
    · refine lv_iconst (v := (nI 0)) F.x F.cd dX2_addPipe_42 (by decide) ?_
      refine W.eq (g2 := F0 m_ 43 ls (.int (bI (decide (x ≠ y) && btw s (nI 0) (nI 255))) :: [])) (by rw [show (decide (x ≠ y) && btw s (nI 0) (nI 255)) = false by simp [c_28]]; rfl) ?_
      refine s_ldcS F q1209 dX2_addPipe_43 ?_
      refine s_callSN (As := [.int (bI (decide (x ≠ y) && btw s (nI 0) (nI 255))), .ref (gS g "FilterWaterworks$Works" 64)]) (rest := []) (n := 2) F hW (k_X1_demand g l σ (decide (x ≠ y) && btw s (nI 0) (nI 255)) (gS g "FilterWaterworks$Works" 64) "argument" ⟨"FilterWaterworks$Works", 64, q1209, rfl⟩) q1210 q1211 q68 q1212 (by decide +kernel) rfl ⟨⟨Nat.le_of_ble_eq_true rfl, Nat.le_of_ble_eq_true rfl⟩, ⟨(Nat.le_of_ble_eq_true rfl), (Nat.le_of_ble_eq_true rfl)⟩⟩ (Nat.le_of_ble_eq_true rfl) hl.1 rfl dX2_addPipe_45 (by subst hQ; exact cX_out F ⟨(Nat.le_of_ble_eq_true rfl), (Nat.le_of_ble_eq_true rfl)⟩ (fun q9 E9 σ9 hp9 => ⟨"argument", by rw [pipeR, if_pos hd23, if_neg (by rw [hp9.1]; decide)], hp9.2⟩)) (fun r3 σ3 H locs hp3 hW => ?_)
      obtain ⟨rfl, hs3, hd45⟩ := hp3
      rw [hs3] at hW
      refine W.eq (g2 := F0 m_ 48 ls ([])) rfl ?_
      refine lv_aload_n F.x F.cd dX2_addPipe_48 rfl (lv_at hl 0 rfl) ?_
      refine s_get F hW (ci := 1) (C := RX2) (T := TX2) (N := 6) (v := .ref (L 2)) (hWk.1) rfl in_X2 1 (by decide) q162 (fun _ h9 => h9) rfl dX2_addPipe_49 ?_
      refine s_callF (As := []) (rest := []) (C := RJ2) (T := TJ2) (N := 3) (n := 0) F hW (k_J2_size g l σ _ _ _ _ hP) (eP) rfl (List.mem_of_getElem? (i := 0) rfl) q317 q272 q274 q72 q276 (by decide +kernel) rfl ⟨⟨Nat.le_of_ble_eq_true rfl, Nat.le_of_ble_eq_true rfl⟩, ⟨(Nat.le_of_ble_eq_true rfl), (Nat.le_of_ble_eq_true rfl)⟩⟩ (Nat.le_of_ble_eq_true rfl) hl.1 rfl dX2_addPipe_52 cX_no (fun r4 σ4 H locs hp4 hW => ?_)
      obtain ⟨rfl, hs4⟩ := hp4
      rw [hs4] at hW
      refine W.eq (g2 := F0 m_ 57 ls (.int (nI (v 1)) :: [])) rfl ?_
      refine lv_bipush (v := (nI 12)) F.x F.cd dX2_addPipe_57 (by decide) ?_
      refine n_icmp_ge (a := v 1) (b := 12) (tgt := 66) F (by omega) (by omega) dX2_addPipe_59 (by decide) (fun c_59 => ?_) (fun c_59 => ?_)
      · refine lv_iconst (v := (nI 0)) F.x F.cd dX2_addPipe_66 (by decide) ?_
        refine W.eq (g2 := F0 m_ 67 ls (.int (bI (decide (v 1 < 12))) :: [])) (by rw [show decide (v 1 < 12) = false by simp; omega]; rfl) ?_
        refine s_ldcS F q1239 dX2_addPipe_67 ?_
        refine s_callSN (As := [.int (bI (decide (v 1 < 12))), .ref (gS g "FilterWaterworks$Works" 70)]) (rest := []) (n := 2) F hW (k_X1_demand g l σ (decide (v 1 < 12)) (gS g "FilterWaterworks$Works" 70) "state" ⟨"FilterWaterworks$Works", 70, q1239, rfl⟩) q1210 q1211 q68 q1212 (by decide +kernel) rfl ⟨⟨Nat.le_of_ble_eq_true rfl, Nat.le_of_ble_eq_true rfl⟩, ⟨(Nat.le_of_ble_eq_true rfl), (Nat.le_of_ble_eq_true rfl)⟩⟩ (Nat.le_of_ble_eq_true rfl) hl.1 rfl dX2_addPipe_69 (by subst hQ; exact cX_out F ⟨(Nat.le_of_ble_eq_true rfl), (Nat.le_of_ble_eq_true rfl)⟩ (fun q9 E9 σ9 hp9 => ⟨"state", by rw [pipeR, if_pos hd23, if_pos hd45, if_neg (of_decide_eq_false hp9.1)], hp9.2⟩)) (fun r5 σ5 H locs hp5 hW => ?_)
        obtain ⟨rfl, hs5, hd69⟩ := hp5
        rw [hs5] at hW
        refine W.eq (g2 := F0 m_ 72 ls ([])) rfl ?_
        have h1a := (Bool.and_eq_true _ _ ▸ hd23 : _ ∧ _)
        have h2a := (Bool.and_eq_true _ _ ▸ hd45 : _ ∧ _)
        obtain ⟨i, hi, rfl⟩ := (inN_iff (show v 0 < 2 ^ 30 by omega)).mp h1a.1
        obtain ⟨j, hj, rfl⟩ := (inN_iff (show v 0 < 2 ^ 30 by omega)).mp h1a.2
        obtain ⟨k, hk1, hk2, rfl⟩ := (btw_iff (by decide) (by decide)).mp h2a.2
        refine lv_aload_n F.x F.cd dX2_addPipe_72 rfl (lv_at hl 0 rfl) ?_
        refine s_get F hW (ci := 1) (C := RX2) (T := TX2) (N := 6) (v := .ref (L 2)) (hWk.1) rfl in_X2 1 (by decide) q162 (fun _ h9 => h9) rfl dX2_addPipe_73 ?_
        refine s_new F hW 9 (C := RX5) (T := TX5) (N := 7) (fs := [.int (nI 0), .int (nI 0), .int (nI 0), .int (nI 0), .int (nI 0), .int (nI 0), .int (nI 0)]) rfl in_X5 tyX5_ok q694 q1062 q96 (fun j hj => by rcases (show j = 0 ∨ j = 1 ∨ j = 2 ∨ j = 3 ∨ j = 4 ∨ j = 5 ∨ j = 6 by omega) with rfl | rfl | rfl | rfl | rfl | rfl | rfl <;> rfl) (Nat.le_of_ble_eq_true rfl) (Nat.le_of_ble_eq_true rfl) dX2_addPipe_76 (fun q6_ H hb_q6_ hn_q6_ hW => ?_)
        obtain ⟨σ7, hσ7⟩ : ∃ z, z = sset σ q6_ (.inr (9, [.int (nI 0), .int (nI 0), .int (nI 0), .int (nI 0), .int (nI 0), .int (nI 0), .int (nI 0)])) := ⟨_, rfl⟩
        have hW : Hl g σ7 H locs := by rw [hσ7]; exact hW
        have w7 : σ7 q6_ = some (.inr (9, [.int (nI 0), .int (nI 0), .int (nI 0), .int (nI 0), .int (nI 0), .int (nI 0), .int (nI 0)])) := by rw [hσ7]; exact sset_eq
        have f8 : σ7 (L 0) = some (.inr (1, [.ref (L 1), .ref (L 2), .int (nI (v 2)), .int (nI (v 3)), .int (nI (v 4)), .int (nI (v 5))])) := by rw [hσ7, sset_ne (sto_ne0 hn_q6_ hWk.1)]; exact hWk.1
        have f9 : σ7 (L 1) = some (.inr (2, [.int mcT, .ref (L 3), .int (nI (v 0))])) := by rw [hσ7, sset_ne (sto_ne0 hn_q6_ eT)]; exact eT
        have j10 := IsList.new (e := .inr (9, [.int (nI 0), .int (nI 0), .int (nI 0), .int (nI 0), .int (nI 0), .int (nI 0), .int (nI 0)])) (hT) (hn_q6_)
        rw [← hσ7] at j10
        have f11 : σ7 (L 2) = some (.inr (2, [.int mcP, .ref (L 4), .int (nI (v 1))])) := by rw [hσ7, sset_ne (sto_ne0 hn_q6_ eP)]; exact eP
        have j12 := IsList.new (e := .inr (9, [.int (nI 0), .int (nI 0), .int (nI 0), .int (nI 0), .int (nI 0), .int (nI 0), .int (nI 0)])) (hP) (hn_q6_)
        rw [← hσ7] at j12
        refine lv_dup F.x F.cd dX2_addPipe_79 rfl ?_
        refine lv_iload_n F.x F.cd dX2_addPipe_80 rfl (lv_at hl 1 rfl) ?_
        refine lv_iload_n F.x F.cd dX2_addPipe_81 rfl (lv_at hl 2 rfl) ?_
        refine lv_iload_n F.x F.cd dX2_addPipe_82 rfl (lv_at hl 3 rfl) ?_
        refine s_callI (As := [.int (nI i), .int (nI j), .int (nI k)]) (rest := [.ref q6_, .ref (L 2)]) (n := 3) F hW (k_X5_init g l σ7 q6_ i j k (w7) (hb_q6_)) q1256 q1064 q96 q1065 rfl (by decide +kernel) rfl ⟨⟨Nat.le_of_ble_eq_true rfl, Nat.le_of_ble_eq_true rfl⟩, ⟨(Nat.le_of_ble_eq_true rfl), (Nat.le_of_ble_eq_true rfl)⟩⟩ (Nat.le_of_ble_eq_true rfl) hl.1 rfl dX2_addPipe_83 cX_no (fun r13 σ13 H locs hp13 hW => ?_)
        obtain ⟨rfl, rfl⟩ := hp13
        refine W.eq (g2 := F0 m_ 86 ls (.ref q6_ :: .ref (L 2) :: [])) rfl ?_
        obtain ⟨σ13, hσ13⟩ : ∃ z, z = sset σ7 q6_ (oPipe i j k 0 0 0 0) := ⟨_, rfl⟩
        rw [← hσ13] at hW
        have w14 : σ13 q6_ = some (.inr (9, [.int (nI i), .int (nI j), .int (nI k), .int (nI 0), .int (nI 0), .int (nI 0), .int (nI 0)])) := by rw [hσ13]; exact sset_eq
        have f15 : σ13 (L 0) = some (.inr (1, [.ref (L 1), .ref (L 2), .int (nI (v 2)), .int (nI (v 3)), .int (nI (v 4)), .int (nI (v 5))])) := by rw [hσ13, sset_ne (sto_ne0 hn_q6_ hWk.1)]; exact f8
        have f16 : σ13 (L 1) = some (.inr (2, [.int mcT, .ref (L 3), .int (nI (v 0))])) := by rw [hσ13, sset_ne (sto_ne0 hn_q6_ eT)]; exact f9
        have j17 := IsList.setO (e := .inr (9, [.int (nI i), .int (nI j), .int (nI k), .int (nI 0), .int (nI 0), .int (nI 0), .int (nI 0)])) (j10) (w7) (by decide)
        rw [← hσ13] at j17
        have f18 : σ13 (L 2) = some (.inr (2, [.int mcP, .ref (L 4), .int (nI (v 1))])) := by rw [hσ13, sset_ne (sto_ne0 hn_q6_ eP)]; exact f11
        have j19 := IsList.setO (e := .inr (9, [.int (nI i), .int (nI j), .int (nI k), .int (nI 0), .int (nI 0), .int (nI 0), .int (nI 0)])) (j12) (w7) (by decide)
        rw [← hσ13] at j19
        refine s_callF (As := [.ref q6_]) (rest := []) (C := RJ2) (T := TJ2) (N := 3) (n := 1) F hW (k_J2_add g l σ13 (L 2) (L 4) (v 1) (fun t => L (100 + t)) q6_ 9 _ _ (j19) (w14) (by decide) rfl q2846 (by rw [hσ13, hσ7, sset_sset]; exact hWk.elmP.new hn_q6_) (by omega)) (f18) rfl (List.mem_of_getElem? (i := 2) rfl) q964 q967 q969 q72 q971 (by decide +kernel) rfl ⟨⟨Nat.le_of_ble_eq_true rfl, Nat.le_of_ble_eq_true rfl⟩, ⟨(Nat.le_of_ble_eq_true rfl), (Nat.le_of_ble_eq_true rfl)⟩⟩ (Nat.le_of_ble_eq_true rfl) hl.1 rfl dX2_addPipe_86 cX_no (fun r20 σ20 H locs hp20 hW => ?_)
        obtain ⟨rfl, hadd⟩ := hp20
        refine W.eq (g2 := F0 m_ 91 ls (.int (nI 1) :: [])) rfl ?_
        rw [hσ13, hσ7, sset_sset] at hadd
        have hDid := addP hWk hI.1 (of_decide_eq_true hd69) hn_q6_ hb_q6_ hadd (fun a ha => (hW.1.2.2.2 a ha).trans (hW00.1.2.2.2 a ha).symm) (F.cs.2.2.2.2.2.2.2.2 _ (by rw [F.cs.2.1]; simp))
        obtain ⟨L9, hW9, hL0, -, -⟩ := id hDid
        generalize hv9 : va_up (upP v (v 1) i j k 0 0 0 0) 1 (v 1 + 1) = v9 at hW9
        have hv90 : v9 1 = v 1 + 1 := by rw [← hv9, va_up_self]
        have hT9 := hW9.2.2.1
        have hP9 := hW9.2.2.2.1
        obtain ⟨mcT9, nT9, fT9, eT9, bT9, -⟩ := id hT9
        obtain ⟨mcP9, nP9, fP9, eP9, bP9, -⟩ := id hP9
        refine lv_pop F.x F.cd dX2_addPipe_91 rfl ?_
        refine lv_aload_n F.x F.cd dX2_addPipe_92 rfl (lv_at hl 0 rfl) ?_
        refine s_get F hW (ci := 1) (C := RX2) (T := TX2) (N := 6) (v := .ref (L9 2)) ((by rw [← hL0]; exact hW9.1)) rfl in_X2 1 (by decide) q162 (fun _ h9 => h9) rfl dX2_addPipe_93 ?_
        refine s_callF (As := []) (rest := []) (C := RJ2) (T := TJ2) (N := 3) (n := 0) F hW (k_J2_size g l σ20 _ _ _ _ hP9) (eP9) rfl (List.mem_of_getElem? (i := 0) rfl) q317 q272 q274 q72 q276 (by decide +kernel) rfl ⟨⟨Nat.le_of_ble_eq_true rfl, Nat.le_of_ble_eq_true rfl⟩, ⟨(Nat.le_of_ble_eq_true rfl), (Nat.le_of_ble_eq_true rfl)⟩⟩ (Nat.le_of_ble_eq_true rfl) hl.1 rfl dX2_addPipe_96 cX_no (fun r21 σ21 H locs hp21 hW => ?_)
        obtain ⟨rfl, hs21⟩ := hp21
        rw [hs21] at hW
        refine W.eq (g2 := F0 m_ 101 ls (.int (nI (v9 1)) :: [])) rfl ?_
        refine lv_iconst (v := (nI 1)) F.x F.cd dX2_addPipe_101 (by decide) ?_
        refine a_isub (v := (nI (v 1))) F (by rw [hv90]; exact pk_sub (by omega)) dX2_addPipe_102 ?_
        subst hQ
        exact s_reti (v := (nI (v 1))) F hW rfl (⟨_, _, by rw [pipeR, if_pos hd23, if_pos hd45, if_pos (of_decide_eq_true hd69), cl_nI (by omega), cl_nI (by omega), cl_nI (by omega)], rfl, hDid⟩) ⟨(Nat.le_of_ble_eq_true rfl), (Nat.le_of_ble_eq_true rfl)⟩ dX2_addPipe_103
      · refine lv_iconst (v := (nI 1)) F.x F.cd dX2_addPipe_62 (by decide) ?_
        refine lv_goto (tgt := 67) F.x F.cd dX2_addPipe_63 (by decide) ?_
        refine W.eq (g2 := F0 m_ 67 ls (.int (bI (decide (v 1 < 12))) :: [])) (by rw [show decide (v 1 < 12) = true by simp; omega]; rfl) ?_
        refine s_ldcS F q1239 dX2_addPipe_67 ?_
        refine s_callSN (As := [.int (bI (decide (v 1 < 12))), .ref (gS g "FilterWaterworks$Works" 70)]) (rest := []) (n := 2) F hW (k_X1_demand g l σ (decide (v 1 < 12)) (gS g "FilterWaterworks$Works" 70) "state" ⟨"FilterWaterworks$Works", 70, q1239, rfl⟩) q1210 q1211 q68 q1212 (by decide +kernel) rfl ⟨⟨Nat.le_of_ble_eq_true rfl, Nat.le_of_ble_eq_true rfl⟩, ⟨(Nat.le_of_ble_eq_true rfl), (Nat.le_of_ble_eq_true rfl)⟩⟩ (Nat.le_of_ble_eq_true rfl) hl.1 rfl dX2_addPipe_69 (by subst hQ; exact cX_out F ⟨(Nat.le_of_ble_eq_true rfl), (Nat.le_of_ble_eq_true rfl)⟩ (fun q9 E9 σ9 hp9 => ⟨"state", by rw [pipeR, if_pos hd23, if_pos hd45, if_neg (of_decide_eq_false hp9.1)], hp9.2⟩)) (fun r22 σ22 H locs hp22 hW => ?_)
        obtain ⟨rfl, hs22, hd69⟩ := hp22
        rw [hs22] at hW
        refine W.eq (g2 := F0 m_ 72 ls ([])) rfl ?_
        have h1a := (Bool.and_eq_true _ _ ▸ hd23 : _ ∧ _)
        have h2a := (Bool.and_eq_true _ _ ▸ hd45 : _ ∧ _)
        obtain ⟨i, hi, rfl⟩ := (inN_iff (show v 0 < 2 ^ 30 by omega)).mp h1a.1
        obtain ⟨j, hj, rfl⟩ := (inN_iff (show v 0 < 2 ^ 30 by omega)).mp h1a.2
        obtain ⟨k, hk1, hk2, rfl⟩ := (btw_iff (by decide) (by decide)).mp h2a.2
        refine lv_aload_n F.x F.cd dX2_addPipe_72 rfl (lv_at hl 0 rfl) ?_
        refine s_get F hW (ci := 1) (C := RX2) (T := TX2) (N := 6) (v := .ref (L 2)) (hWk.1) rfl in_X2 1 (by decide) q162 (fun _ h9 => h9) rfl dX2_addPipe_73 ?_
        refine s_new F hW 9 (C := RX5) (T := TX5) (N := 7) (fs := [.int (nI 0), .int (nI 0), .int (nI 0), .int (nI 0), .int (nI 0), .int (nI 0), .int (nI 0)]) rfl in_X5 tyX5_ok q694 q1062 q96 (fun j hj => by rcases (show j = 0 ∨ j = 1 ∨ j = 2 ∨ j = 3 ∨ j = 4 ∨ j = 5 ∨ j = 6 by omega) with rfl | rfl | rfl | rfl | rfl | rfl | rfl <;> rfl) (Nat.le_of_ble_eq_true rfl) (Nat.le_of_ble_eq_true rfl) dX2_addPipe_76 (fun q23_ H hb_q23_ hn_q23_ hW => ?_)
        obtain ⟨σ24, hσ24⟩ : ∃ z, z = sset σ q23_ (.inr (9, [.int (nI 0), .int (nI 0), .int (nI 0), .int (nI 0), .int (nI 0), .int (nI 0), .int (nI 0)])) := ⟨_, rfl⟩
        have hW : Hl g σ24 H locs := by rw [hσ24]; exact hW
        have w24 : σ24 q23_ = some (.inr (9, [.int (nI 0), .int (nI 0), .int (nI 0), .int (nI 0), .int (nI 0), .int (nI 0), .int (nI 0)])) := by rw [hσ24]; exact sset_eq
        have f25 : σ24 (L 0) = some (.inr (1, [.ref (L 1), .ref (L 2), .int (nI (v 2)), .int (nI (v 3)), .int (nI (v 4)), .int (nI (v 5))])) := by rw [hσ24, sset_ne (sto_ne0 hn_q23_ hWk.1)]; exact hWk.1
        have f26 : σ24 (L 1) = some (.inr (2, [.int mcT, .ref (L 3), .int (nI (v 0))])) := by rw [hσ24, sset_ne (sto_ne0 hn_q23_ eT)]; exact eT
        have j27 := IsList.new (e := .inr (9, [.int (nI 0), .int (nI 0), .int (nI 0), .int (nI 0), .int (nI 0), .int (nI 0), .int (nI 0)])) (hT) (hn_q23_)
        rw [← hσ24] at j27
        have f28 : σ24 (L 2) = some (.inr (2, [.int mcP, .ref (L 4), .int (nI (v 1))])) := by rw [hσ24, sset_ne (sto_ne0 hn_q23_ eP)]; exact eP
        have j29 := IsList.new (e := .inr (9, [.int (nI 0), .int (nI 0), .int (nI 0), .int (nI 0), .int (nI 0), .int (nI 0), .int (nI 0)])) (hP) (hn_q23_)
        rw [← hσ24] at j29
        refine lv_dup F.x F.cd dX2_addPipe_79 rfl ?_
        refine lv_iload_n F.x F.cd dX2_addPipe_80 rfl (lv_at hl 1 rfl) ?_
        refine lv_iload_n F.x F.cd dX2_addPipe_81 rfl (lv_at hl 2 rfl) ?_
        refine lv_iload_n F.x F.cd dX2_addPipe_82 rfl (lv_at hl 3 rfl) ?_
        refine s_callI (As := [.int (nI i), .int (nI j), .int (nI k)]) (rest := [.ref q23_, .ref (L 2)]) (n := 3) F hW (k_X5_init g l σ24 q23_ i j k (w24) (hb_q23_)) q1256 q1064 q96 q1065 rfl (by decide +kernel) rfl ⟨⟨Nat.le_of_ble_eq_true rfl, Nat.le_of_ble_eq_true rfl⟩, ⟨(Nat.le_of_ble_eq_true rfl), (Nat.le_of_ble_eq_true rfl)⟩⟩ (Nat.le_of_ble_eq_true rfl) hl.1 rfl dX2_addPipe_83 cX_no (fun r30 σ30 H locs hp30 hW => ?_)
        obtain ⟨rfl, rfl⟩ := hp30
        refine W.eq (g2 := F0 m_ 86 ls (.ref q23_ :: .ref (L 2) :: [])) rfl ?_
        obtain ⟨σ30, hσ30⟩ : ∃ z, z = sset σ24 q23_ (oPipe i j k 0 0 0 0) := ⟨_, rfl⟩
        rw [← hσ30] at hW
        have w31 : σ30 q23_ = some (.inr (9, [.int (nI i), .int (nI j), .int (nI k), .int (nI 0), .int (nI 0), .int (nI 0), .int (nI 0)])) := by rw [hσ30]; exact sset_eq
        have f32 : σ30 (L 0) = some (.inr (1, [.ref (L 1), .ref (L 2), .int (nI (v 2)), .int (nI (v 3)), .int (nI (v 4)), .int (nI (v 5))])) := by rw [hσ30, sset_ne (sto_ne0 hn_q23_ hWk.1)]; exact f25
        have f33 : σ30 (L 1) = some (.inr (2, [.int mcT, .ref (L 3), .int (nI (v 0))])) := by rw [hσ30, sset_ne (sto_ne0 hn_q23_ eT)]; exact f26
        have j34 := IsList.setO (e := .inr (9, [.int (nI i), .int (nI j), .int (nI k), .int (nI 0), .int (nI 0), .int (nI 0), .int (nI 0)])) (j27) (w24) (by decide)
        rw [← hσ30] at j34
        have f35 : σ30 (L 2) = some (.inr (2, [.int mcP, .ref (L 4), .int (nI (v 1))])) := by rw [hσ30, sset_ne (sto_ne0 hn_q23_ eP)]; exact f28
        have j36 := IsList.setO (e := .inr (9, [.int (nI i), .int (nI j), .int (nI k), .int (nI 0), .int (nI 0), .int (nI 0), .int (nI 0)])) (j29) (w24) (by decide)
        rw [← hσ30] at j36
        refine s_callF (As := [.ref q23_]) (rest := []) (C := RJ2) (T := TJ2) (N := 3) (n := 1) F hW (k_J2_add g l σ30 (L 2) (L 4) (v 1) (fun t => L (100 + t)) q23_ 9 _ _ (j36) (w31) (by decide) rfl q2846 (by rw [hσ30, hσ24, sset_sset]; exact hWk.elmP.new hn_q23_) (by omega)) (f35) rfl (List.mem_of_getElem? (i := 2) rfl) q964 q967 q969 q72 q971 (by decide +kernel) rfl ⟨⟨Nat.le_of_ble_eq_true rfl, Nat.le_of_ble_eq_true rfl⟩, ⟨(Nat.le_of_ble_eq_true rfl), (Nat.le_of_ble_eq_true rfl)⟩⟩ (Nat.le_of_ble_eq_true rfl) hl.1 rfl dX2_addPipe_86 cX_no (fun r37 σ37 H locs hp37 hW => ?_)
        obtain ⟨rfl, hadd⟩ := hp37
        refine W.eq (g2 := F0 m_ 91 ls (.int (nI 1) :: [])) rfl ?_
        rw [hσ30, hσ24, sset_sset] at hadd
        have hDid := addP hWk hI.1 (of_decide_eq_true hd69) hn_q23_ hb_q23_ hadd (fun a ha => (hW.1.2.2.2 a ha).trans (hW00.1.2.2.2 a ha).symm) (F.cs.2.2.2.2.2.2.2.2 _ (by rw [F.cs.2.1]; simp))
        obtain ⟨L9, hW9, hL0, -, -⟩ := id hDid
        generalize hv9 : va_up (upP v (v 1) i j k 0 0 0 0) 1 (v 1 + 1) = v9 at hW9
        have hv90 : v9 1 = v 1 + 1 := by rw [← hv9, va_up_self]
        have hT9 := hW9.2.2.1
        have hP9 := hW9.2.2.2.1
        obtain ⟨mcT9, nT9, fT9, eT9, bT9, -⟩ := id hT9
        obtain ⟨mcP9, nP9, fP9, eP9, bP9, -⟩ := id hP9
        refine lv_pop F.x F.cd dX2_addPipe_91 rfl ?_
        refine lv_aload_n F.x F.cd dX2_addPipe_92 rfl (lv_at hl 0 rfl) ?_
        refine s_get F hW (ci := 1) (C := RX2) (T := TX2) (N := 6) (v := .ref (L9 2)) ((by rw [← hL0]; exact hW9.1)) rfl in_X2 1 (by decide) q162 (fun _ h9 => h9) rfl dX2_addPipe_93 ?_
        refine s_callF (As := []) (rest := []) (C := RJ2) (T := TJ2) (N := 3) (n := 0) F hW (k_J2_size g l σ37 _ _ _ _ hP9) (eP9) rfl (List.mem_of_getElem? (i := 0) rfl) q317 q272 q274 q72 q276 (by decide +kernel) rfl ⟨⟨Nat.le_of_ble_eq_true rfl, Nat.le_of_ble_eq_true rfl⟩, ⟨(Nat.le_of_ble_eq_true rfl), (Nat.le_of_ble_eq_true rfl)⟩⟩ (Nat.le_of_ble_eq_true rfl) hl.1 rfl dX2_addPipe_96 cX_no (fun r38 σ38 H locs hp38 hW => ?_)
        obtain ⟨rfl, hs38⟩ := hp38
        rw [hs38] at hW
        refine W.eq (g2 := F0 m_ 101 ls (.int (nI (v9 1)) :: [])) rfl ?_
        refine lv_iconst (v := (nI 1)) F.x F.cd dX2_addPipe_101 (by decide) ?_
        refine a_isub (v := (nI (v 1))) F (by rw [hv90]; exact pk_sub (by omega)) dX2_addPipe_102 ?_
        subst hQ
        exact s_reti (v := (nI (v 1))) F hW rfl (⟨_, _, by rw [pipeR, if_pos hd23, if_pos hd45, if_pos (of_decide_eq_true hd69), cl_nI (by omega), cl_nI (by omega), cl_nI (by omega)], rfl, hDid⟩) ⟨(Nat.le_of_ble_eq_true rfl), (Nat.le_of_ble_eq_true rfl)⟩ dX2_addPipe_103
    · refine lv_iload_n F.x F.cd dX2_addPipe_31 rfl (lv_at hl 3 rfl) ?_
      refine s_callSN (As := [.int s]) (rest := []) (n := 1) F hW (k_X1_isSet g l σ s) q1252 q1253 q68 q1254 (by decide +kernel) rfl ⟨⟨Nat.le_of_ble_eq_true rfl, Nat.le_of_ble_eq_true rfl⟩, ⟨(Nat.le_of_ble_eq_true rfl), (Nat.le_of_ble_eq_true rfl)⟩⟩ (Nat.le_of_ble_eq_true rfl) hl.1 rfl dX2_addPipe_32 cX_no (fun r39 σ39 H locs hp39 hW => ?_)
      obtain ⟨rfl, hs39⟩ := hp39
      rw [hs39] at hW
      refine W.eq (g2 := F0 m_ 35 ls (.int (bI (btw s (nI 0) (nI 255))) :: [])) rfl ?_
      refine b_if_eq (b := (btw s (nI 0) (nI 255))) (tgt := 42) F dX2_addPipe_35 (by decide) (fun c_35 => ?_) (fun c_35 => ?_)
      · refine lv_iconst (v := (nI 0)) F.x F.cd dX2_addPipe_42 (by decide) ?_
        refine W.eq (g2 := F0 m_ 43 ls (.int (bI (decide (x ≠ y) && btw s (nI 0) (nI 255))) :: [])) (by rw [show (decide (x ≠ y) && btw s (nI 0) (nI 255)) = false by simp [c_28, c_35]]; rfl) ?_
        refine s_ldcS F q1209 dX2_addPipe_43 ?_
        refine s_callSN (As := [.int (bI (decide (x ≠ y) && btw s (nI 0) (nI 255))), .ref (gS g "FilterWaterworks$Works" 64)]) (rest := []) (n := 2) F hW (k_X1_demand g l σ (decide (x ≠ y) && btw s (nI 0) (nI 255)) (gS g "FilterWaterworks$Works" 64) "argument" ⟨"FilterWaterworks$Works", 64, q1209, rfl⟩) q1210 q1211 q68 q1212 (by decide +kernel) rfl ⟨⟨Nat.le_of_ble_eq_true rfl, Nat.le_of_ble_eq_true rfl⟩, ⟨(Nat.le_of_ble_eq_true rfl), (Nat.le_of_ble_eq_true rfl)⟩⟩ (Nat.le_of_ble_eq_true rfl) hl.1 rfl dX2_addPipe_45 (by subst hQ; exact cX_out F ⟨(Nat.le_of_ble_eq_true rfl), (Nat.le_of_ble_eq_true rfl)⟩ (fun q9 E9 σ9 hp9 => ⟨"argument", by rw [pipeR, if_pos hd23, if_neg (by rw [hp9.1]; decide)], hp9.2⟩)) (fun r40 σ40 H locs hp40 hW => ?_)
        obtain ⟨rfl, hs40, hd45⟩ := hp40
        rw [hs40] at hW
        refine W.eq (g2 := F0 m_ 48 ls ([])) rfl ?_
        refine lv_aload_n F.x F.cd dX2_addPipe_48 rfl (lv_at hl 0 rfl) ?_
        refine s_get F hW (ci := 1) (C := RX2) (T := TX2) (N := 6) (v := .ref (L 2)) (hWk.1) rfl in_X2 1 (by decide) q162 (fun _ h9 => h9) rfl dX2_addPipe_49 ?_
        refine s_callF (As := []) (rest := []) (C := RJ2) (T := TJ2) (N := 3) (n := 0) F hW (k_J2_size g l σ _ _ _ _ hP) (eP) rfl (List.mem_of_getElem? (i := 0) rfl) q317 q272 q274 q72 q276 (by decide +kernel) rfl ⟨⟨Nat.le_of_ble_eq_true rfl, Nat.le_of_ble_eq_true rfl⟩, ⟨(Nat.le_of_ble_eq_true rfl), (Nat.le_of_ble_eq_true rfl)⟩⟩ (Nat.le_of_ble_eq_true rfl) hl.1 rfl dX2_addPipe_52 cX_no (fun r41 σ41 H locs hp41 hW => ?_)
        obtain ⟨rfl, hs41⟩ := hp41
        rw [hs41] at hW
        refine W.eq (g2 := F0 m_ 57 ls (.int (nI (v 1)) :: [])) rfl ?_
        refine lv_bipush (v := (nI 12)) F.x F.cd dX2_addPipe_57 (by decide) ?_
        refine n_icmp_ge (a := v 1) (b := 12) (tgt := 66) F (by omega) (by omega) dX2_addPipe_59 (by decide) (fun c_59 => ?_) (fun c_59 => ?_)
        · refine lv_iconst (v := (nI 0)) F.x F.cd dX2_addPipe_66 (by decide) ?_
          refine W.eq (g2 := F0 m_ 67 ls (.int (bI (decide (v 1 < 12))) :: [])) (by rw [show decide (v 1 < 12) = false by simp; omega]; rfl) ?_
          refine s_ldcS F q1239 dX2_addPipe_67 ?_
          refine s_callSN (As := [.int (bI (decide (v 1 < 12))), .ref (gS g "FilterWaterworks$Works" 70)]) (rest := []) (n := 2) F hW (k_X1_demand g l σ (decide (v 1 < 12)) (gS g "FilterWaterworks$Works" 70) "state" ⟨"FilterWaterworks$Works", 70, q1239, rfl⟩) q1210 q1211 q68 q1212 (by decide +kernel) rfl ⟨⟨Nat.le_of_ble_eq_true rfl, Nat.le_of_ble_eq_true rfl⟩, ⟨(Nat.le_of_ble_eq_true rfl), (Nat.le_of_ble_eq_true rfl)⟩⟩ (Nat.le_of_ble_eq_true rfl) hl.1 rfl dX2_addPipe_69 (by subst hQ; exact cX_out F ⟨(Nat.le_of_ble_eq_true rfl), (Nat.le_of_ble_eq_true rfl)⟩ (fun q9 E9 σ9 hp9 => ⟨"state", by rw [pipeR, if_pos hd23, if_pos hd45, if_neg (of_decide_eq_false hp9.1)], hp9.2⟩)) (fun r42 σ42 H locs hp42 hW => ?_)
          obtain ⟨rfl, hs42, hd69⟩ := hp42
          rw [hs42] at hW
          refine W.eq (g2 := F0 m_ 72 ls ([])) rfl ?_
          have h1a := (Bool.and_eq_true _ _ ▸ hd23 : _ ∧ _)
          have h2a := (Bool.and_eq_true _ _ ▸ hd45 : _ ∧ _)
          obtain ⟨i, hi, rfl⟩ := (inN_iff (show v 0 < 2 ^ 30 by omega)).mp h1a.1
          obtain ⟨j, hj, rfl⟩ := (inN_iff (show v 0 < 2 ^ 30 by omega)).mp h1a.2
          obtain ⟨k, hk1, hk2, rfl⟩ := (btw_iff (by decide) (by decide)).mp h2a.2
          refine lv_aload_n F.x F.cd dX2_addPipe_72 rfl (lv_at hl 0 rfl) ?_
          refine s_get F hW (ci := 1) (C := RX2) (T := TX2) (N := 6) (v := .ref (L 2)) (hWk.1) rfl in_X2 1 (by decide) q162 (fun _ h9 => h9) rfl dX2_addPipe_73 ?_
          refine s_new F hW 9 (C := RX5) (T := TX5) (N := 7) (fs := [.int (nI 0), .int (nI 0), .int (nI 0), .int (nI 0), .int (nI 0), .int (nI 0), .int (nI 0)]) rfl in_X5 tyX5_ok q694 q1062 q96 (fun j hj => by rcases (show j = 0 ∨ j = 1 ∨ j = 2 ∨ j = 3 ∨ j = 4 ∨ j = 5 ∨ j = 6 by omega) with rfl | rfl | rfl | rfl | rfl | rfl | rfl <;> rfl) (Nat.le_of_ble_eq_true rfl) (Nat.le_of_ble_eq_true rfl) dX2_addPipe_76 (fun q43_ H hb_q43_ hn_q43_ hW => ?_)
          obtain ⟨σ44, hσ44⟩ : ∃ z, z = sset σ q43_ (.inr (9, [.int (nI 0), .int (nI 0), .int (nI 0), .int (nI 0), .int (nI 0), .int (nI 0), .int (nI 0)])) := ⟨_, rfl⟩
          have hW : Hl g σ44 H locs := by rw [hσ44]; exact hW
          have w44 : σ44 q43_ = some (.inr (9, [.int (nI 0), .int (nI 0), .int (nI 0), .int (nI 0), .int (nI 0), .int (nI 0), .int (nI 0)])) := by rw [hσ44]; exact sset_eq
          have f45 : σ44 (L 0) = some (.inr (1, [.ref (L 1), .ref (L 2), .int (nI (v 2)), .int (nI (v 3)), .int (nI (v 4)), .int (nI (v 5))])) := by rw [hσ44, sset_ne (sto_ne0 hn_q43_ hWk.1)]; exact hWk.1
          have f46 : σ44 (L 1) = some (.inr (2, [.int mcT, .ref (L 3), .int (nI (v 0))])) := by rw [hσ44, sset_ne (sto_ne0 hn_q43_ eT)]; exact eT
          have j47 := IsList.new (e := .inr (9, [.int (nI 0), .int (nI 0), .int (nI 0), .int (nI 0), .int (nI 0), .int (nI 0), .int (nI 0)])) (hT) (hn_q43_)
          rw [← hσ44] at j47
          have f48 : σ44 (L 2) = some (.inr (2, [.int mcP, .ref (L 4), .int (nI (v 1))])) := by rw [hσ44, sset_ne (sto_ne0 hn_q43_ eP)]; exact eP
          have j49 := IsList.new (e := .inr (9, [.int (nI 0), .int (nI 0), .int (nI 0), .int (nI 0), .int (nI 0), .int (nI 0), .int (nI 0)])) (hP) (hn_q43_)
          rw [← hσ44] at j49
          refine lv_dup F.x F.cd dX2_addPipe_79 rfl ?_
          refine lv_iload_n F.x F.cd dX2_addPipe_80 rfl (lv_at hl 1 rfl) ?_
          refine lv_iload_n F.x F.cd dX2_addPipe_81 rfl (lv_at hl 2 rfl) ?_
          refine lv_iload_n F.x F.cd dX2_addPipe_82 rfl (lv_at hl 3 rfl) ?_
          refine s_callI (As := [.int (nI i), .int (nI j), .int (nI k)]) (rest := [.ref q43_, .ref (L 2)]) (n := 3) F hW (k_X5_init g l σ44 q43_ i j k (w44) (hb_q43_)) q1256 q1064 q96 q1065 rfl (by decide +kernel) rfl ⟨⟨Nat.le_of_ble_eq_true rfl, Nat.le_of_ble_eq_true rfl⟩, ⟨(Nat.le_of_ble_eq_true rfl), (Nat.le_of_ble_eq_true rfl)⟩⟩ (Nat.le_of_ble_eq_true rfl) hl.1 rfl dX2_addPipe_83 cX_no (fun r50 σ50 H locs hp50 hW => ?_)
          obtain ⟨rfl, rfl⟩ := hp50
          refine W.eq (g2 := F0 m_ 86 ls (.ref q43_ :: .ref (L 2) :: [])) rfl ?_
          obtain ⟨σ50, hσ50⟩ : ∃ z, z = sset σ44 q43_ (oPipe i j k 0 0 0 0) := ⟨_, rfl⟩
          rw [← hσ50] at hW
          have w51 : σ50 q43_ = some (.inr (9, [.int (nI i), .int (nI j), .int (nI k), .int (nI 0), .int (nI 0), .int (nI 0), .int (nI 0)])) := by rw [hσ50]; exact sset_eq
          have f52 : σ50 (L 0) = some (.inr (1, [.ref (L 1), .ref (L 2), .int (nI (v 2)), .int (nI (v 3)), .int (nI (v 4)), .int (nI (v 5))])) := by rw [hσ50, sset_ne (sto_ne0 hn_q43_ hWk.1)]; exact f45
          have f53 : σ50 (L 1) = some (.inr (2, [.int mcT, .ref (L 3), .int (nI (v 0))])) := by rw [hσ50, sset_ne (sto_ne0 hn_q43_ eT)]; exact f46
          have j54 := IsList.setO (e := .inr (9, [.int (nI i), .int (nI j), .int (nI k), .int (nI 0), .int (nI 0), .int (nI 0), .int (nI 0)])) (j47) (w44) (by decide)
          rw [← hσ50] at j54
          have f55 : σ50 (L 2) = some (.inr (2, [.int mcP, .ref (L 4), .int (nI (v 1))])) := by rw [hσ50, sset_ne (sto_ne0 hn_q43_ eP)]; exact f48
          have j56 := IsList.setO (e := .inr (9, [.int (nI i), .int (nI j), .int (nI k), .int (nI 0), .int (nI 0), .int (nI 0), .int (nI 0)])) (j49) (w44) (by decide)
          rw [← hσ50] at j56
          refine s_callF (As := [.ref q43_]) (rest := []) (C := RJ2) (T := TJ2) (N := 3) (n := 1) F hW (k_J2_add g l σ50 (L 2) (L 4) (v 1) (fun t => L (100 + t)) q43_ 9 _ _ (j56) (w51) (by decide) rfl q2846 (by rw [hσ50, hσ44, sset_sset]; exact hWk.elmP.new hn_q43_) (by omega)) (f55) rfl (List.mem_of_getElem? (i := 2) rfl) q964 q967 q969 q72 q971 (by decide +kernel) rfl ⟨⟨Nat.le_of_ble_eq_true rfl, Nat.le_of_ble_eq_true rfl⟩, ⟨(Nat.le_of_ble_eq_true rfl), (Nat.le_of_ble_eq_true rfl)⟩⟩ (Nat.le_of_ble_eq_true rfl) hl.1 rfl dX2_addPipe_86 cX_no (fun r57 σ57 H locs hp57 hW => ?_)
          obtain ⟨rfl, hadd⟩ := hp57
          refine W.eq (g2 := F0 m_ 91 ls (.int (nI 1) :: [])) rfl ?_
          rw [hσ50, hσ44, sset_sset] at hadd
          have hDid := addP hWk hI.1 (of_decide_eq_true hd69) hn_q43_ hb_q43_ hadd (fun a ha => (hW.1.2.2.2 a ha).trans (hW00.1.2.2.2 a ha).symm) (F.cs.2.2.2.2.2.2.2.2 _ (by rw [F.cs.2.1]; simp))
          obtain ⟨L9, hW9, hL0, -, -⟩ := id hDid
          generalize hv9 : va_up (upP v (v 1) i j k 0 0 0 0) 1 (v 1 + 1) = v9 at hW9
          have hv90 : v9 1 = v 1 + 1 := by rw [← hv9, va_up_self]
          have hT9 := hW9.2.2.1
          have hP9 := hW9.2.2.2.1
          obtain ⟨mcT9, nT9, fT9, eT9, bT9, -⟩ := id hT9
          obtain ⟨mcP9, nP9, fP9, eP9, bP9, -⟩ := id hP9
          refine lv_pop F.x F.cd dX2_addPipe_91 rfl ?_
          refine lv_aload_n F.x F.cd dX2_addPipe_92 rfl (lv_at hl 0 rfl) ?_
          refine s_get F hW (ci := 1) (C := RX2) (T := TX2) (N := 6) (v := .ref (L9 2)) ((by rw [← hL0]; exact hW9.1)) rfl in_X2 1 (by decide) q162 (fun _ h9 => h9) rfl dX2_addPipe_93 ?_
          refine s_callF (As := []) (rest := []) (C := RJ2) (T := TJ2) (N := 3) (n := 0) F hW (k_J2_size g l σ57 _ _ _ _ hP9) (eP9) rfl (List.mem_of_getElem? (i := 0) rfl) q317 q272 q274 q72 q276 (by decide +kernel) rfl ⟨⟨Nat.le_of_ble_eq_true rfl, Nat.le_of_ble_eq_true rfl⟩, ⟨(Nat.le_of_ble_eq_true rfl), (Nat.le_of_ble_eq_true rfl)⟩⟩ (Nat.le_of_ble_eq_true rfl) hl.1 rfl dX2_addPipe_96 cX_no (fun r58 σ58 H locs hp58 hW => ?_)
          obtain ⟨rfl, hs58⟩ := hp58
          rw [hs58] at hW
          refine W.eq (g2 := F0 m_ 101 ls (.int (nI (v9 1)) :: [])) rfl ?_
          refine lv_iconst (v := (nI 1)) F.x F.cd dX2_addPipe_101 (by decide) ?_
          refine a_isub (v := (nI (v 1))) F (by rw [hv90]; exact pk_sub (by omega)) dX2_addPipe_102 ?_
          subst hQ
          exact s_reti (v := (nI (v 1))) F hW rfl (⟨_, _, by rw [pipeR, if_pos hd23, if_pos hd45, if_pos (of_decide_eq_true hd69), cl_nI (by omega), cl_nI (by omega), cl_nI (by omega)], rfl, hDid⟩) ⟨(Nat.le_of_ble_eq_true rfl), (Nat.le_of_ble_eq_true rfl)⟩ dX2_addPipe_103
        · refine lv_iconst (v := (nI 1)) F.x F.cd dX2_addPipe_62 (by decide) ?_
          refine lv_goto (tgt := 67) F.x F.cd dX2_addPipe_63 (by decide) ?_
          refine W.eq (g2 := F0 m_ 67 ls (.int (bI (decide (v 1 < 12))) :: [])) (by rw [show decide (v 1 < 12) = true by simp; omega]; rfl) ?_
          refine s_ldcS F q1239 dX2_addPipe_67 ?_
          refine s_callSN (As := [.int (bI (decide (v 1 < 12))), .ref (gS g "FilterWaterworks$Works" 70)]) (rest := []) (n := 2) F hW (k_X1_demand g l σ (decide (v 1 < 12)) (gS g "FilterWaterworks$Works" 70) "state" ⟨"FilterWaterworks$Works", 70, q1239, rfl⟩) q1210 q1211 q68 q1212 (by decide +kernel) rfl ⟨⟨Nat.le_of_ble_eq_true rfl, Nat.le_of_ble_eq_true rfl⟩, ⟨(Nat.le_of_ble_eq_true rfl), (Nat.le_of_ble_eq_true rfl)⟩⟩ (Nat.le_of_ble_eq_true rfl) hl.1 rfl dX2_addPipe_69 (by subst hQ; exact cX_out F ⟨(Nat.le_of_ble_eq_true rfl), (Nat.le_of_ble_eq_true rfl)⟩ (fun q9 E9 σ9 hp9 => ⟨"state", by rw [pipeR, if_pos hd23, if_pos hd45, if_neg (of_decide_eq_false hp9.1)], hp9.2⟩)) (fun r59 σ59 H locs hp59 hW => ?_)
          obtain ⟨rfl, hs59, hd69⟩ := hp59
          rw [hs59] at hW
          refine W.eq (g2 := F0 m_ 72 ls ([])) rfl ?_
          have h1a := (Bool.and_eq_true _ _ ▸ hd23 : _ ∧ _)
          have h2a := (Bool.and_eq_true _ _ ▸ hd45 : _ ∧ _)
          obtain ⟨i, hi, rfl⟩ := (inN_iff (show v 0 < 2 ^ 30 by omega)).mp h1a.1
          obtain ⟨j, hj, rfl⟩ := (inN_iff (show v 0 < 2 ^ 30 by omega)).mp h1a.2
          obtain ⟨k, hk1, hk2, rfl⟩ := (btw_iff (by decide) (by decide)).mp h2a.2
          refine lv_aload_n F.x F.cd dX2_addPipe_72 rfl (lv_at hl 0 rfl) ?_
          refine s_get F hW (ci := 1) (C := RX2) (T := TX2) (N := 6) (v := .ref (L 2)) (hWk.1) rfl in_X2 1 (by decide) q162 (fun _ h9 => h9) rfl dX2_addPipe_73 ?_
          refine s_new F hW 9 (C := RX5) (T := TX5) (N := 7) (fs := [.int (nI 0), .int (nI 0), .int (nI 0), .int (nI 0), .int (nI 0), .int (nI 0), .int (nI 0)]) rfl in_X5 tyX5_ok q694 q1062 q96 (fun j hj => by rcases (show j = 0 ∨ j = 1 ∨ j = 2 ∨ j = 3 ∨ j = 4 ∨ j = 5 ∨ j = 6 by omega) with rfl | rfl | rfl | rfl | rfl | rfl | rfl <;> rfl) (Nat.le_of_ble_eq_true rfl) (Nat.le_of_ble_eq_true rfl) dX2_addPipe_76 (fun q60_ H hb_q60_ hn_q60_ hW => ?_)
          obtain ⟨σ61, hσ61⟩ : ∃ z, z = sset σ q60_ (.inr (9, [.int (nI 0), .int (nI 0), .int (nI 0), .int (nI 0), .int (nI 0), .int (nI 0), .int (nI 0)])) := ⟨_, rfl⟩
          have hW : Hl g σ61 H locs := by rw [hσ61]; exact hW
          have w61 : σ61 q60_ = some (.inr (9, [.int (nI 0), .int (nI 0), .int (nI 0), .int (nI 0), .int (nI 0), .int (nI 0), .int (nI 0)])) := by rw [hσ61]; exact sset_eq
          have f62 : σ61 (L 0) = some (.inr (1, [.ref (L 1), .ref (L 2), .int (nI (v 2)), .int (nI (v 3)), .int (nI (v 4)), .int (nI (v 5))])) := by rw [hσ61, sset_ne (sto_ne0 hn_q60_ hWk.1)]; exact hWk.1
          have f63 : σ61 (L 1) = some (.inr (2, [.int mcT, .ref (L 3), .int (nI (v 0))])) := by rw [hσ61, sset_ne (sto_ne0 hn_q60_ eT)]; exact eT
          have j64 := IsList.new (e := .inr (9, [.int (nI 0), .int (nI 0), .int (nI 0), .int (nI 0), .int (nI 0), .int (nI 0), .int (nI 0)])) (hT) (hn_q60_)
          rw [← hσ61] at j64
          have f65 : σ61 (L 2) = some (.inr (2, [.int mcP, .ref (L 4), .int (nI (v 1))])) := by rw [hσ61, sset_ne (sto_ne0 hn_q60_ eP)]; exact eP
          have j66 := IsList.new (e := .inr (9, [.int (nI 0), .int (nI 0), .int (nI 0), .int (nI 0), .int (nI 0), .int (nI 0), .int (nI 0)])) (hP) (hn_q60_)
          rw [← hσ61] at j66
          refine lv_dup F.x F.cd dX2_addPipe_79 rfl ?_
          refine lv_iload_n F.x F.cd dX2_addPipe_80 rfl (lv_at hl 1 rfl) ?_
          refine lv_iload_n F.x F.cd dX2_addPipe_81 rfl (lv_at hl 2 rfl) ?_
          refine lv_iload_n F.x F.cd dX2_addPipe_82 rfl (lv_at hl 3 rfl) ?_
          refine s_callI (As := [.int (nI i), .int (nI j), .int (nI k)]) (rest := [.ref q60_, .ref (L 2)]) (n := 3) F hW (k_X5_init g l σ61 q60_ i j k (w61) (hb_q60_)) q1256 q1064 q96 q1065 rfl (by decide +kernel) rfl ⟨⟨Nat.le_of_ble_eq_true rfl, Nat.le_of_ble_eq_true rfl⟩, ⟨(Nat.le_of_ble_eq_true rfl), (Nat.le_of_ble_eq_true rfl)⟩⟩ (Nat.le_of_ble_eq_true rfl) hl.1 rfl dX2_addPipe_83 cX_no (fun r67 σ67 H locs hp67 hW => ?_)
          obtain ⟨rfl, rfl⟩ := hp67
          refine W.eq (g2 := F0 m_ 86 ls (.ref q60_ :: .ref (L 2) :: [])) rfl ?_
          obtain ⟨σ67, hσ67⟩ : ∃ z, z = sset σ61 q60_ (oPipe i j k 0 0 0 0) := ⟨_, rfl⟩
          rw [← hσ67] at hW
          have w68 : σ67 q60_ = some (.inr (9, [.int (nI i), .int (nI j), .int (nI k), .int (nI 0), .int (nI 0), .int (nI 0), .int (nI 0)])) := by rw [hσ67]; exact sset_eq
          have f69 : σ67 (L 0) = some (.inr (1, [.ref (L 1), .ref (L 2), .int (nI (v 2)), .int (nI (v 3)), .int (nI (v 4)), .int (nI (v 5))])) := by rw [hσ67, sset_ne (sto_ne0 hn_q60_ hWk.1)]; exact f62
          have f70 : σ67 (L 1) = some (.inr (2, [.int mcT, .ref (L 3), .int (nI (v 0))])) := by rw [hσ67, sset_ne (sto_ne0 hn_q60_ eT)]; exact f63
          have j71 := IsList.setO (e := .inr (9, [.int (nI i), .int (nI j), .int (nI k), .int (nI 0), .int (nI 0), .int (nI 0), .int (nI 0)])) (j64) (w61) (by decide)
          rw [← hσ67] at j71
          have f72 : σ67 (L 2) = some (.inr (2, [.int mcP, .ref (L 4), .int (nI (v 1))])) := by rw [hσ67, sset_ne (sto_ne0 hn_q60_ eP)]; exact f65
          have j73 := IsList.setO (e := .inr (9, [.int (nI i), .int (nI j), .int (nI k), .int (nI 0), .int (nI 0), .int (nI 0), .int (nI 0)])) (j66) (w61) (by decide)
          rw [← hσ67] at j73
          refine s_callF (As := [.ref q60_]) (rest := []) (C := RJ2) (T := TJ2) (N := 3) (n := 1) F hW (k_J2_add g l σ67 (L 2) (L 4) (v 1) (fun t => L (100 + t)) q60_ 9 _ _ (j73) (w68) (by decide) rfl q2846 (by rw [hσ67, hσ61, sset_sset]; exact hWk.elmP.new hn_q60_) (by omega)) (f72) rfl (List.mem_of_getElem? (i := 2) rfl) q964 q967 q969 q72 q971 (by decide +kernel) rfl ⟨⟨Nat.le_of_ble_eq_true rfl, Nat.le_of_ble_eq_true rfl⟩, ⟨(Nat.le_of_ble_eq_true rfl), (Nat.le_of_ble_eq_true rfl)⟩⟩ (Nat.le_of_ble_eq_true rfl) hl.1 rfl dX2_addPipe_86 cX_no (fun r74 σ74 H locs hp74 hW => ?_)
          obtain ⟨rfl, hadd⟩ := hp74
          refine W.eq (g2 := F0 m_ 91 ls (.int (nI 1) :: [])) rfl ?_
          rw [hσ67, hσ61, sset_sset] at hadd
          have hDid := addP hWk hI.1 (of_decide_eq_true hd69) hn_q60_ hb_q60_ hadd (fun a ha => (hW.1.2.2.2 a ha).trans (hW00.1.2.2.2 a ha).symm) (F.cs.2.2.2.2.2.2.2.2 _ (by rw [F.cs.2.1]; simp))
          obtain ⟨L9, hW9, hL0, -, -⟩ := id hDid
          generalize hv9 : va_up (upP v (v 1) i j k 0 0 0 0) 1 (v 1 + 1) = v9 at hW9
          have hv90 : v9 1 = v 1 + 1 := by rw [← hv9, va_up_self]
          have hT9 := hW9.2.2.1
          have hP9 := hW9.2.2.2.1
          obtain ⟨mcT9, nT9, fT9, eT9, bT9, -⟩ := id hT9
          obtain ⟨mcP9, nP9, fP9, eP9, bP9, -⟩ := id hP9
          refine lv_pop F.x F.cd dX2_addPipe_91 rfl ?_
          refine lv_aload_n F.x F.cd dX2_addPipe_92 rfl (lv_at hl 0 rfl) ?_
          refine s_get F hW (ci := 1) (C := RX2) (T := TX2) (N := 6) (v := .ref (L9 2)) ((by rw [← hL0]; exact hW9.1)) rfl in_X2 1 (by decide) q162 (fun _ h9 => h9) rfl dX2_addPipe_93 ?_
          refine s_callF (As := []) (rest := []) (C := RJ2) (T := TJ2) (N := 3) (n := 0) F hW (k_J2_size g l σ74 _ _ _ _ hP9) (eP9) rfl (List.mem_of_getElem? (i := 0) rfl) q317 q272 q274 q72 q276 (by decide +kernel) rfl ⟨⟨Nat.le_of_ble_eq_true rfl, Nat.le_of_ble_eq_true rfl⟩, ⟨(Nat.le_of_ble_eq_true rfl), (Nat.le_of_ble_eq_true rfl)⟩⟩ (Nat.le_of_ble_eq_true rfl) hl.1 rfl dX2_addPipe_96 cX_no (fun r75 σ75 H locs hp75 hW => ?_)
          obtain ⟨rfl, hs75⟩ := hp75
          rw [hs75] at hW
          refine W.eq (g2 := F0 m_ 101 ls (.int (nI (v9 1)) :: [])) rfl ?_
          refine lv_iconst (v := (nI 1)) F.x F.cd dX2_addPipe_101 (by decide) ?_
          refine a_isub (v := (nI (v 1))) F (by rw [hv90]; exact pk_sub (by omega)) dX2_addPipe_102 ?_
          subst hQ
          exact s_reti (v := (nI (v 1))) F hW rfl (⟨_, _, by rw [pipeR, if_pos hd23, if_pos hd45, if_pos (of_decide_eq_true hd69), cl_nI (by omega), cl_nI (by omega), cl_nI (by omega)], rfl, hDid⟩) ⟨(Nat.le_of_ble_eq_true rfl), (Nat.le_of_ble_eq_true rfl)⟩ dX2_addPipe_103
      · refine lv_iconst (v := (nI 1)) F.x F.cd dX2_addPipe_38 (by decide) ?_
        refine lv_goto (tgt := 43) F.x F.cd dX2_addPipe_39 (by decide) ?_
        refine W.eq (g2 := F0 m_ 43 ls (.int (bI (decide (x ≠ y) && btw s (nI 0) (nI 255))) :: [])) (by rw [show (decide (x ≠ y) && btw s (nI 0) (nI 255)) = true by simp [c_28, c_35]]; rfl) ?_
        refine s_ldcS F q1209 dX2_addPipe_43 ?_
        refine s_callSN (As := [.int (bI (decide (x ≠ y) && btw s (nI 0) (nI 255))), .ref (gS g "FilterWaterworks$Works" 64)]) (rest := []) (n := 2) F hW (k_X1_demand g l σ (decide (x ≠ y) && btw s (nI 0) (nI 255)) (gS g "FilterWaterworks$Works" 64) "argument" ⟨"FilterWaterworks$Works", 64, q1209, rfl⟩) q1210 q1211 q68 q1212 (by decide +kernel) rfl ⟨⟨Nat.le_of_ble_eq_true rfl, Nat.le_of_ble_eq_true rfl⟩, ⟨(Nat.le_of_ble_eq_true rfl), (Nat.le_of_ble_eq_true rfl)⟩⟩ (Nat.le_of_ble_eq_true rfl) hl.1 rfl dX2_addPipe_45 (by subst hQ; exact cX_out F ⟨(Nat.le_of_ble_eq_true rfl), (Nat.le_of_ble_eq_true rfl)⟩ (fun q9 E9 σ9 hp9 => ⟨"argument", by rw [pipeR, if_pos hd23, if_neg (by rw [hp9.1]; decide)], hp9.2⟩)) (fun r76 σ76 H locs hp76 hW => ?_)
        obtain ⟨rfl, hs76, hd45⟩ := hp76
        rw [hs76] at hW
        refine W.eq (g2 := F0 m_ 48 ls ([])) rfl ?_
        refine lv_aload_n F.x F.cd dX2_addPipe_48 rfl (lv_at hl 0 rfl) ?_
        refine s_get F hW (ci := 1) (C := RX2) (T := TX2) (N := 6) (v := .ref (L 2)) (hWk.1) rfl in_X2 1 (by decide) q162 (fun _ h9 => h9) rfl dX2_addPipe_49 ?_
        refine s_callF (As := []) (rest := []) (C := RJ2) (T := TJ2) (N := 3) (n := 0) F hW (k_J2_size g l σ _ _ _ _ hP) (eP) rfl (List.mem_of_getElem? (i := 0) rfl) q317 q272 q274 q72 q276 (by decide +kernel) rfl ⟨⟨Nat.le_of_ble_eq_true rfl, Nat.le_of_ble_eq_true rfl⟩, ⟨(Nat.le_of_ble_eq_true rfl), (Nat.le_of_ble_eq_true rfl)⟩⟩ (Nat.le_of_ble_eq_true rfl) hl.1 rfl dX2_addPipe_52 cX_no (fun r77 σ77 H locs hp77 hW => ?_)
        obtain ⟨rfl, hs77⟩ := hp77
        rw [hs77] at hW
        refine W.eq (g2 := F0 m_ 57 ls (.int (nI (v 1)) :: [])) rfl ?_
        refine lv_bipush (v := (nI 12)) F.x F.cd dX2_addPipe_57 (by decide) ?_
        refine n_icmp_ge (a := v 1) (b := 12) (tgt := 66) F (by omega) (by omega) dX2_addPipe_59 (by decide) (fun c_59 => ?_) (fun c_59 => ?_)
        · refine lv_iconst (v := (nI 0)) F.x F.cd dX2_addPipe_66 (by decide) ?_
          refine W.eq (g2 := F0 m_ 67 ls (.int (bI (decide (v 1 < 12))) :: [])) (by rw [show decide (v 1 < 12) = false by simp; omega]; rfl) ?_
          refine s_ldcS F q1239 dX2_addPipe_67 ?_
          refine s_callSN (As := [.int (bI (decide (v 1 < 12))), .ref (gS g "FilterWaterworks$Works" 70)]) (rest := []) (n := 2) F hW (k_X1_demand g l σ (decide (v 1 < 12)) (gS g "FilterWaterworks$Works" 70) "state" ⟨"FilterWaterworks$Works", 70, q1239, rfl⟩) q1210 q1211 q68 q1212 (by decide +kernel) rfl ⟨⟨Nat.le_of_ble_eq_true rfl, Nat.le_of_ble_eq_true rfl⟩, ⟨(Nat.le_of_ble_eq_true rfl), (Nat.le_of_ble_eq_true rfl)⟩⟩ (Nat.le_of_ble_eq_true rfl) hl.1 rfl dX2_addPipe_69 (by subst hQ; exact cX_out F ⟨(Nat.le_of_ble_eq_true rfl), (Nat.le_of_ble_eq_true rfl)⟩ (fun q9 E9 σ9 hp9 => ⟨"state", by rw [pipeR, if_pos hd23, if_pos hd45, if_neg (of_decide_eq_false hp9.1)], hp9.2⟩)) (fun r78 σ78 H locs hp78 hW => ?_)
          obtain ⟨rfl, hs78, hd69⟩ := hp78
          rw [hs78] at hW
          refine W.eq (g2 := F0 m_ 72 ls ([])) rfl ?_
          have h1a := (Bool.and_eq_true _ _ ▸ hd23 : _ ∧ _)
          have h2a := (Bool.and_eq_true _ _ ▸ hd45 : _ ∧ _)
          obtain ⟨i, hi, rfl⟩ := (inN_iff (show v 0 < 2 ^ 30 by omega)).mp h1a.1
          obtain ⟨j, hj, rfl⟩ := (inN_iff (show v 0 < 2 ^ 30 by omega)).mp h1a.2
          obtain ⟨k, hk1, hk2, rfl⟩ := (btw_iff (by decide) (by decide)).mp h2a.2
          refine lv_aload_n F.x F.cd dX2_addPipe_72 rfl (lv_at hl 0 rfl) ?_
          refine s_get F hW (ci := 1) (C := RX2) (T := TX2) (N := 6) (v := .ref (L 2)) (hWk.1) rfl in_X2 1 (by decide) q162 (fun _ h9 => h9) rfl dX2_addPipe_73 ?_
          refine s_new F hW 9 (C := RX5) (T := TX5) (N := 7) (fs := [.int (nI 0), .int (nI 0), .int (nI 0), .int (nI 0), .int (nI 0), .int (nI 0), .int (nI 0)]) rfl in_X5 tyX5_ok q694 q1062 q96 (fun j hj => by rcases (show j = 0 ∨ j = 1 ∨ j = 2 ∨ j = 3 ∨ j = 4 ∨ j = 5 ∨ j = 6 by omega) with rfl | rfl | rfl | rfl | rfl | rfl | rfl <;> rfl) (Nat.le_of_ble_eq_true rfl) (Nat.le_of_ble_eq_true rfl) dX2_addPipe_76 (fun q79_ H hb_q79_ hn_q79_ hW => ?_)
          obtain ⟨σ80, hσ80⟩ : ∃ z, z = sset σ q79_ (.inr (9, [.int (nI 0), .int (nI 0), .int (nI 0), .int (nI 0), .int (nI 0), .int (nI 0), .int (nI 0)])) := ⟨_, rfl⟩
          have hW : Hl g σ80 H locs := by rw [hσ80]; exact hW
          have w80 : σ80 q79_ = some (.inr (9, [.int (nI 0), .int (nI 0), .int (nI 0), .int (nI 0), .int (nI 0), .int (nI 0), .int (nI 0)])) := by rw [hσ80]; exact sset_eq
          have f81 : σ80 (L 0) = some (.inr (1, [.ref (L 1), .ref (L 2), .int (nI (v 2)), .int (nI (v 3)), .int (nI (v 4)), .int (nI (v 5))])) := by rw [hσ80, sset_ne (sto_ne0 hn_q79_ hWk.1)]; exact hWk.1
          have f82 : σ80 (L 1) = some (.inr (2, [.int mcT, .ref (L 3), .int (nI (v 0))])) := by rw [hσ80, sset_ne (sto_ne0 hn_q79_ eT)]; exact eT
          have j83 := IsList.new (e := .inr (9, [.int (nI 0), .int (nI 0), .int (nI 0), .int (nI 0), .int (nI 0), .int (nI 0), .int (nI 0)])) (hT) (hn_q79_)
          rw [← hσ80] at j83
          have f84 : σ80 (L 2) = some (.inr (2, [.int mcP, .ref (L 4), .int (nI (v 1))])) := by rw [hσ80, sset_ne (sto_ne0 hn_q79_ eP)]; exact eP
          have j85 := IsList.new (e := .inr (9, [.int (nI 0), .int (nI 0), .int (nI 0), .int (nI 0), .int (nI 0), .int (nI 0), .int (nI 0)])) (hP) (hn_q79_)
          rw [← hσ80] at j85
          refine lv_dup F.x F.cd dX2_addPipe_79 rfl ?_
          refine lv_iload_n F.x F.cd dX2_addPipe_80 rfl (lv_at hl 1 rfl) ?_
          refine lv_iload_n F.x F.cd dX2_addPipe_81 rfl (lv_at hl 2 rfl) ?_
          refine lv_iload_n F.x F.cd dX2_addPipe_82 rfl (lv_at hl 3 rfl) ?_
          refine s_callI (As := [.int (nI i), .int (nI j), .int (nI k)]) (rest := [.ref q79_, .ref (L 2)]) (n := 3) F hW (k_X5_init g l σ80 q79_ i j k (w80) (hb_q79_)) q1256 q1064 q96 q1065 rfl (by decide +kernel) rfl ⟨⟨Nat.le_of_ble_eq_true rfl, Nat.le_of_ble_eq_true rfl⟩, ⟨(Nat.le_of_ble_eq_true rfl), (Nat.le_of_ble_eq_true rfl)⟩⟩ (Nat.le_of_ble_eq_true rfl) hl.1 rfl dX2_addPipe_83 cX_no (fun r86 σ86 H locs hp86 hW => ?_)
          obtain ⟨rfl, rfl⟩ := hp86
          refine W.eq (g2 := F0 m_ 86 ls (.ref q79_ :: .ref (L 2) :: [])) rfl ?_
          obtain ⟨σ86, hσ86⟩ : ∃ z, z = sset σ80 q79_ (oPipe i j k 0 0 0 0) := ⟨_, rfl⟩
          rw [← hσ86] at hW
          have w87 : σ86 q79_ = some (.inr (9, [.int (nI i), .int (nI j), .int (nI k), .int (nI 0), .int (nI 0), .int (nI 0), .int (nI 0)])) := by rw [hσ86]; exact sset_eq
          have f88 : σ86 (L 0) = some (.inr (1, [.ref (L 1), .ref (L 2), .int (nI (v 2)), .int (nI (v 3)), .int (nI (v 4)), .int (nI (v 5))])) := by rw [hσ86, sset_ne (sto_ne0 hn_q79_ hWk.1)]; exact f81
          have f89 : σ86 (L 1) = some (.inr (2, [.int mcT, .ref (L 3), .int (nI (v 0))])) := by rw [hσ86, sset_ne (sto_ne0 hn_q79_ eT)]; exact f82
          have j90 := IsList.setO (e := .inr (9, [.int (nI i), .int (nI j), .int (nI k), .int (nI 0), .int (nI 0), .int (nI 0), .int (nI 0)])) (j83) (w80) (by decide)
          rw [← hσ86] at j90
          have f91 : σ86 (L 2) = some (.inr (2, [.int mcP, .ref (L 4), .int (nI (v 1))])) := by rw [hσ86, sset_ne (sto_ne0 hn_q79_ eP)]; exact f84
          have j92 := IsList.setO (e := .inr (9, [.int (nI i), .int (nI j), .int (nI k), .int (nI 0), .int (nI 0), .int (nI 0), .int (nI 0)])) (j85) (w80) (by decide)
          rw [← hσ86] at j92
          refine s_callF (As := [.ref q79_]) (rest := []) (C := RJ2) (T := TJ2) (N := 3) (n := 1) F hW (k_J2_add g l σ86 (L 2) (L 4) (v 1) (fun t => L (100 + t)) q79_ 9 _ _ (j92) (w87) (by decide) rfl q2846 (by rw [hσ86, hσ80, sset_sset]; exact hWk.elmP.new hn_q79_) (by omega)) (f91) rfl (List.mem_of_getElem? (i := 2) rfl) q964 q967 q969 q72 q971 (by decide +kernel) rfl ⟨⟨Nat.le_of_ble_eq_true rfl, Nat.le_of_ble_eq_true rfl⟩, ⟨(Nat.le_of_ble_eq_true rfl), (Nat.le_of_ble_eq_true rfl)⟩⟩ (Nat.le_of_ble_eq_true rfl) hl.1 rfl dX2_addPipe_86 cX_no (fun r93 σ93 H locs hp93 hW => ?_)
          obtain ⟨rfl, hadd⟩ := hp93
          refine W.eq (g2 := F0 m_ 91 ls (.int (nI 1) :: [])) rfl ?_
          rw [hσ86, hσ80, sset_sset] at hadd
          have hDid := addP hWk hI.1 (of_decide_eq_true hd69) hn_q79_ hb_q79_ hadd (fun a ha => (hW.1.2.2.2 a ha).trans (hW00.1.2.2.2 a ha).symm) (F.cs.2.2.2.2.2.2.2.2 _ (by rw [F.cs.2.1]; simp))
          obtain ⟨L9, hW9, hL0, -, -⟩ := id hDid
          generalize hv9 : va_up (upP v (v 1) i j k 0 0 0 0) 1 (v 1 + 1) = v9 at hW9
          have hv90 : v9 1 = v 1 + 1 := by rw [← hv9, va_up_self]
          have hT9 := hW9.2.2.1
          have hP9 := hW9.2.2.2.1
          obtain ⟨mcT9, nT9, fT9, eT9, bT9, -⟩ := id hT9
          obtain ⟨mcP9, nP9, fP9, eP9, bP9, -⟩ := id hP9
          refine lv_pop F.x F.cd dX2_addPipe_91 rfl ?_
          refine lv_aload_n F.x F.cd dX2_addPipe_92 rfl (lv_at hl 0 rfl) ?_
          refine s_get F hW (ci := 1) (C := RX2) (T := TX2) (N := 6) (v := .ref (L9 2)) ((by rw [← hL0]; exact hW9.1)) rfl in_X2 1 (by decide) q162 (fun _ h9 => h9) rfl dX2_addPipe_93 ?_
          refine s_callF (As := []) (rest := []) (C := RJ2) (T := TJ2) (N := 3) (n := 0) F hW (k_J2_size g l σ93 _ _ _ _ hP9) (eP9) rfl (List.mem_of_getElem? (i := 0) rfl) q317 q272 q274 q72 q276 (by decide +kernel) rfl ⟨⟨Nat.le_of_ble_eq_true rfl, Nat.le_of_ble_eq_true rfl⟩, ⟨(Nat.le_of_ble_eq_true rfl), (Nat.le_of_ble_eq_true rfl)⟩⟩ (Nat.le_of_ble_eq_true rfl) hl.1 rfl dX2_addPipe_96 cX_no (fun r94 σ94 H locs hp94 hW => ?_)
          obtain ⟨rfl, hs94⟩ := hp94
          rw [hs94] at hW
          refine W.eq (g2 := F0 m_ 101 ls (.int (nI (v9 1)) :: [])) rfl ?_
          refine lv_iconst (v := (nI 1)) F.x F.cd dX2_addPipe_101 (by decide) ?_
          refine a_isub (v := (nI (v 1))) F (by rw [hv90]; exact pk_sub (by omega)) dX2_addPipe_102 ?_
          subst hQ
          exact s_reti (v := (nI (v 1))) F hW rfl (⟨_, _, by rw [pipeR, if_pos hd23, if_pos hd45, if_pos (of_decide_eq_true hd69), cl_nI (by omega), cl_nI (by omega), cl_nI (by omega)], rfl, hDid⟩) ⟨(Nat.le_of_ble_eq_true rfl), (Nat.le_of_ble_eq_true rfl)⟩ dX2_addPipe_103
        · refine lv_iconst (v := (nI 1)) F.x F.cd dX2_addPipe_62 (by decide) ?_
          refine lv_goto (tgt := 67) F.x F.cd dX2_addPipe_63 (by decide) ?_
          refine W.eq (g2 := F0 m_ 67 ls (.int (bI (decide (v 1 < 12))) :: [])) (by rw [show decide (v 1 < 12) = true by simp; omega]; rfl) ?_
          refine s_ldcS F q1239 dX2_addPipe_67 ?_
          refine s_callSN (As := [.int (bI (decide (v 1 < 12))), .ref (gS g "FilterWaterworks$Works" 70)]) (rest := []) (n := 2) F hW (k_X1_demand g l σ (decide (v 1 < 12)) (gS g "FilterWaterworks$Works" 70) "state" ⟨"FilterWaterworks$Works", 70, q1239, rfl⟩) q1210 q1211 q68 q1212 (by decide +kernel) rfl ⟨⟨Nat.le_of_ble_eq_true rfl, Nat.le_of_ble_eq_true rfl⟩, ⟨(Nat.le_of_ble_eq_true rfl), (Nat.le_of_ble_eq_true rfl)⟩⟩ (Nat.le_of_ble_eq_true rfl) hl.1 rfl dX2_addPipe_69 (by subst hQ; exact cX_out F ⟨(Nat.le_of_ble_eq_true rfl), (Nat.le_of_ble_eq_true rfl)⟩ (fun q9 E9 σ9 hp9 => ⟨"state", by rw [pipeR, if_pos hd23, if_pos hd45, if_neg (of_decide_eq_false hp9.1)], hp9.2⟩)) (fun r95 σ95 H locs hp95 hW => ?_)
          obtain ⟨rfl, hs95, hd69⟩ := hp95
          rw [hs95] at hW
          refine W.eq (g2 := F0 m_ 72 ls ([])) rfl ?_
          have h1a := (Bool.and_eq_true _ _ ▸ hd23 : _ ∧ _)
          have h2a := (Bool.and_eq_true _ _ ▸ hd45 : _ ∧ _)
          obtain ⟨i, hi, rfl⟩ := (inN_iff (show v 0 < 2 ^ 30 by omega)).mp h1a.1
          obtain ⟨j, hj, rfl⟩ := (inN_iff (show v 0 < 2 ^ 30 by omega)).mp h1a.2
          obtain ⟨k, hk1, hk2, rfl⟩ := (btw_iff (by decide) (by decide)).mp h2a.2
          refine lv_aload_n F.x F.cd dX2_addPipe_72 rfl (lv_at hl 0 rfl) ?_
          refine s_get F hW (ci := 1) (C := RX2) (T := TX2) (N := 6) (v := .ref (L 2)) (hWk.1) rfl in_X2 1 (by decide) q162 (fun _ h9 => h9) rfl dX2_addPipe_73 ?_
          refine s_new F hW 9 (C := RX5) (T := TX5) (N := 7) (fs := [.int (nI 0), .int (nI 0), .int (nI 0), .int (nI 0), .int (nI 0), .int (nI 0), .int (nI 0)]) rfl in_X5 tyX5_ok q694 q1062 q96 (fun j hj => by rcases (show j = 0 ∨ j = 1 ∨ j = 2 ∨ j = 3 ∨ j = 4 ∨ j = 5 ∨ j = 6 by omega) with rfl | rfl | rfl | rfl | rfl | rfl | rfl <;> rfl) (Nat.le_of_ble_eq_true rfl) (Nat.le_of_ble_eq_true rfl) dX2_addPipe_76 (fun q96_ H hb_q96_ hn_q96_ hW => ?_)
          obtain ⟨σ97, hσ97⟩ : ∃ z, z = sset σ q96_ (.inr (9, [.int (nI 0), .int (nI 0), .int (nI 0), .int (nI 0), .int (nI 0), .int (nI 0), .int (nI 0)])) := ⟨_, rfl⟩
          have hW : Hl g σ97 H locs := by rw [hσ97]; exact hW
          have w97 : σ97 q96_ = some (.inr (9, [.int (nI 0), .int (nI 0), .int (nI 0), .int (nI 0), .int (nI 0), .int (nI 0), .int (nI 0)])) := by rw [hσ97]; exact sset_eq
          have f98 : σ97 (L 0) = some (.inr (1, [.ref (L 1), .ref (L 2), .int (nI (v 2)), .int (nI (v 3)), .int (nI (v 4)), .int (nI (v 5))])) := by rw [hσ97, sset_ne (sto_ne0 hn_q96_ hWk.1)]; exact hWk.1
          have f99 : σ97 (L 1) = some (.inr (2, [.int mcT, .ref (L 3), .int (nI (v 0))])) := by rw [hσ97, sset_ne (sto_ne0 hn_q96_ eT)]; exact eT
          have j100 := IsList.new (e := .inr (9, [.int (nI 0), .int (nI 0), .int (nI 0), .int (nI 0), .int (nI 0), .int (nI 0), .int (nI 0)])) (hT) (hn_q96_)
          rw [← hσ97] at j100
          have f101 : σ97 (L 2) = some (.inr (2, [.int mcP, .ref (L 4), .int (nI (v 1))])) := by rw [hσ97, sset_ne (sto_ne0 hn_q96_ eP)]; exact eP
          have j102 := IsList.new (e := .inr (9, [.int (nI 0), .int (nI 0), .int (nI 0), .int (nI 0), .int (nI 0), .int (nI 0), .int (nI 0)])) (hP) (hn_q96_)
          rw [← hσ97] at j102
          refine lv_dup F.x F.cd dX2_addPipe_79 rfl ?_
          refine lv_iload_n F.x F.cd dX2_addPipe_80 rfl (lv_at hl 1 rfl) ?_
          refine lv_iload_n F.x F.cd dX2_addPipe_81 rfl (lv_at hl 2 rfl) ?_
          refine lv_iload_n F.x F.cd dX2_addPipe_82 rfl (lv_at hl 3 rfl) ?_
          refine s_callI (As := [.int (nI i), .int (nI j), .int (nI k)]) (rest := [.ref q96_, .ref (L 2)]) (n := 3) F hW (k_X5_init g l σ97 q96_ i j k (w97) (hb_q96_)) q1256 q1064 q96 q1065 rfl (by decide +kernel) rfl ⟨⟨Nat.le_of_ble_eq_true rfl, Nat.le_of_ble_eq_true rfl⟩, ⟨(Nat.le_of_ble_eq_true rfl), (Nat.le_of_ble_eq_true rfl)⟩⟩ (Nat.le_of_ble_eq_true rfl) hl.1 rfl dX2_addPipe_83 cX_no (fun r103 σ103 H locs hp103 hW => ?_)
          obtain ⟨rfl, rfl⟩ := hp103
          refine W.eq (g2 := F0 m_ 86 ls (.ref q96_ :: .ref (L 2) :: [])) rfl ?_
          obtain ⟨σ103, hσ103⟩ : ∃ z, z = sset σ97 q96_ (oPipe i j k 0 0 0 0) := ⟨_, rfl⟩
          rw [← hσ103] at hW
          have w104 : σ103 q96_ = some (.inr (9, [.int (nI i), .int (nI j), .int (nI k), .int (nI 0), .int (nI 0), .int (nI 0), .int (nI 0)])) := by rw [hσ103]; exact sset_eq
          have f105 : σ103 (L 0) = some (.inr (1, [.ref (L 1), .ref (L 2), .int (nI (v 2)), .int (nI (v 3)), .int (nI (v 4)), .int (nI (v 5))])) := by rw [hσ103, sset_ne (sto_ne0 hn_q96_ hWk.1)]; exact f98
          have f106 : σ103 (L 1) = some (.inr (2, [.int mcT, .ref (L 3), .int (nI (v 0))])) := by rw [hσ103, sset_ne (sto_ne0 hn_q96_ eT)]; exact f99
          have j107 := IsList.setO (e := .inr (9, [.int (nI i), .int (nI j), .int (nI k), .int (nI 0), .int (nI 0), .int (nI 0), .int (nI 0)])) (j100) (w97) (by decide)
          rw [← hσ103] at j107
          have f108 : σ103 (L 2) = some (.inr (2, [.int mcP, .ref (L 4), .int (nI (v 1))])) := by rw [hσ103, sset_ne (sto_ne0 hn_q96_ eP)]; exact f101
          have j109 := IsList.setO (e := .inr (9, [.int (nI i), .int (nI j), .int (nI k), .int (nI 0), .int (nI 0), .int (nI 0), .int (nI 0)])) (j102) (w97) (by decide)
          rw [← hσ103] at j109
          refine s_callF (As := [.ref q96_]) (rest := []) (C := RJ2) (T := TJ2) (N := 3) (n := 1) F hW (k_J2_add g l σ103 (L 2) (L 4) (v 1) (fun t => L (100 + t)) q96_ 9 _ _ (j109) (w104) (by decide) rfl q2846 (by rw [hσ103, hσ97, sset_sset]; exact hWk.elmP.new hn_q96_) (by omega)) (f108) rfl (List.mem_of_getElem? (i := 2) rfl) q964 q967 q969 q72 q971 (by decide +kernel) rfl ⟨⟨Nat.le_of_ble_eq_true rfl, Nat.le_of_ble_eq_true rfl⟩, ⟨(Nat.le_of_ble_eq_true rfl), (Nat.le_of_ble_eq_true rfl)⟩⟩ (Nat.le_of_ble_eq_true rfl) hl.1 rfl dX2_addPipe_86 cX_no (fun r110 σ110 H locs hp110 hW => ?_)
          obtain ⟨rfl, hadd⟩ := hp110
          refine W.eq (g2 := F0 m_ 91 ls (.int (nI 1) :: [])) rfl ?_
          rw [hσ103, hσ97, sset_sset] at hadd
          have hDid := addP hWk hI.1 (of_decide_eq_true hd69) hn_q96_ hb_q96_ hadd (fun a ha => (hW.1.2.2.2 a ha).trans (hW00.1.2.2.2 a ha).symm) (F.cs.2.2.2.2.2.2.2.2 _ (by rw [F.cs.2.1]; simp))
          obtain ⟨L9, hW9, hL0, -, -⟩ := id hDid
          generalize hv9 : va_up (upP v (v 1) i j k 0 0 0 0) 1 (v 1 + 1) = v9 at hW9
          have hv90 : v9 1 = v 1 + 1 := by rw [← hv9, va_up_self]
          have hT9 := hW9.2.2.1
          have hP9 := hW9.2.2.2.1
          obtain ⟨mcT9, nT9, fT9, eT9, bT9, -⟩ := id hT9
          obtain ⟨mcP9, nP9, fP9, eP9, bP9, -⟩ := id hP9
          refine lv_pop F.x F.cd dX2_addPipe_91 rfl ?_
          refine lv_aload_n F.x F.cd dX2_addPipe_92 rfl (lv_at hl 0 rfl) ?_
          refine s_get F hW (ci := 1) (C := RX2) (T := TX2) (N := 6) (v := .ref (L9 2)) ((by rw [← hL0]; exact hW9.1)) rfl in_X2 1 (by decide) q162 (fun _ h9 => h9) rfl dX2_addPipe_93 ?_
          refine s_callF (As := []) (rest := []) (C := RJ2) (T := TJ2) (N := 3) (n := 0) F hW (k_J2_size g l σ110 _ _ _ _ hP9) (eP9) rfl (List.mem_of_getElem? (i := 0) rfl) q317 q272 q274 q72 q276 (by decide +kernel) rfl ⟨⟨Nat.le_of_ble_eq_true rfl, Nat.le_of_ble_eq_true rfl⟩, ⟨(Nat.le_of_ble_eq_true rfl), (Nat.le_of_ble_eq_true rfl)⟩⟩ (Nat.le_of_ble_eq_true rfl) hl.1 rfl dX2_addPipe_96 cX_no (fun r111 σ111 H locs hp111 hW => ?_)
          obtain ⟨rfl, hs111⟩ := hp111
          rw [hs111] at hW
          refine W.eq (g2 := F0 m_ 101 ls (.int (nI (v9 1)) :: [])) rfl ?_
          refine lv_iconst (v := (nI 1)) F.x F.cd dX2_addPipe_101 (by decide) ?_
          refine a_isub (v := (nI (v 1))) F (by rw [hv90]; exact pk_sub (by omega)) dX2_addPipe_102 ?_
          subst hQ
          exact s_reti (v := (nI (v 1))) F hW rfl (⟨_, _, by rw [pipeR, if_pos hd23, if_pos hd45, if_pos (of_decide_eq_true hd69), cl_nI (by omega), cl_nI (by omega), cl_nI (by omega)], rfl, hDid⟩) ⟨(Nat.le_of_ble_eq_true rfl), (Nat.le_of_ble_eq_true rfl)⟩ dX2_addPipe_103
  · refine lv_aload_n F.x F.cd dX2_addPipe_8 rfl (lv_at hl 0 rfl) ?_
    refine lv_iload_n F.x F.cd dX2_addPipe_9 rfl (lv_at hl 2 rfl) ?_
    refine s_callV (As := [.int y]) (rest := []) (C := RX2) (T := TX2) (N := 6) (n := 1) F hW (k_X2_hasTank g l σ L v y hWk hI) (hWk.1) rfl q1247 q1248 q1249 q69 q1250 rfl (by decide +kernel) rfl ⟨⟨Nat.le_of_ble_eq_true rfl, Nat.le_of_ble_eq_true rfl⟩, ⟨(Nat.le_of_ble_eq_true rfl), (Nat.le_of_ble_eq_true rfl)⟩⟩ (Nat.le_of_ble_eq_true rfl) hl.1 rfl dX2_addPipe_10 cX_no (fun r112 σ112 H locs hp112 hW => ?_)
    obtain ⟨rfl, hs112⟩ := hp112
    rw [hs112] at hW
    refine W.eq (g2 := F0 m_ 13 ls (.int (bI (inN y (v 0))) :: [])) rfl ?_
    refine b_if_eq (b := (inN y (v 0))) (tgt := 20) F dX2_addPipe_13 (by decide) (fun c_13 => ?_) (fun c_13 => ?_)
    · refine lv_iconst (v := (nI 0)) F.x F.cd dX2_addPipe_20 (by decide) ?_
      refine W.eq (g2 := F0 m_ 21 ls (.int (bI (inN x (v 0) && inN y (v 0))) :: [])) (by rw [show (inN x (v 0) && inN y (v 0)) = false by simp [c_5, c_13]]; rfl) ?_
      refine s_ldcS F q1251 dX2_addPipe_21 ?_
      refine s_callSN (As := [.int (bI (inN x (v 0) && inN y (v 0))), .ref (gS g "FilterWaterworks$Works" 79)]) (rest := []) (n := 2) F hW (k_X1_demand g l σ (inN x (v 0) && inN y (v 0)) (gS g "FilterWaterworks$Works" 79) "index" ⟨"FilterWaterworks$Works", 79, q1251, rfl⟩) q1210 q1211 q68 q1212 (by decide +kernel) rfl ⟨⟨Nat.le_of_ble_eq_true rfl, Nat.le_of_ble_eq_true rfl⟩, ⟨(Nat.le_of_ble_eq_true rfl), (Nat.le_of_ble_eq_true rfl)⟩⟩ (Nat.le_of_ble_eq_true rfl) hl.1 rfl dX2_addPipe_23 (by subst hQ; exact cX_out F ⟨(Nat.le_of_ble_eq_true rfl), (Nat.le_of_ble_eq_true rfl)⟩ (fun q9 E9 σ9 hp9 => ⟨"index", by rw [pipeR, if_neg (by rw [hp9.1]; decide)], hp9.2⟩)) (fun r113 σ113 H locs hp113 hW => ?_)
      obtain ⟨rfl, hs113, hd23⟩ := hp113
      rw [hs113] at hW
      refine W.eq (g2 := F0 m_ 26 ls ([])) rfl ?_
      refine lv_iload_n F.x F.cd dX2_addPipe_26 rfl (lv_at hl 1 rfl) ?_
      refine lv_iload_n F.x F.cd dX2_addPipe_27 rfl (lv_at hl 2 rfl) ?_
      refine lv_icmp_eq (x := x) (y := y) (tgt := 42) F.x F.cd dX2_addPipe_28 (by decide) (fun c_28 => ?_) (fun c_28 => ?_)
      · refine lv_iconst (v := (nI 0)) F.x F.cd dX2_addPipe_42 (by decide) ?_
        refine W.eq (g2 := F0 m_ 43 ls (.int (bI (decide (x ≠ y) && btw s (nI 0) (nI 255))) :: [])) (by rw [show (decide (x ≠ y) && btw s (nI 0) (nI 255)) = false by simp [c_28]]; rfl) ?_
        refine s_ldcS F q1209 dX2_addPipe_43 ?_
        refine s_callSN (As := [.int (bI (decide (x ≠ y) && btw s (nI 0) (nI 255))), .ref (gS g "FilterWaterworks$Works" 64)]) (rest := []) (n := 2) F hW (k_X1_demand g l σ (decide (x ≠ y) && btw s (nI 0) (nI 255)) (gS g "FilterWaterworks$Works" 64) "argument" ⟨"FilterWaterworks$Works", 64, q1209, rfl⟩) q1210 q1211 q68 q1212 (by decide +kernel) rfl ⟨⟨Nat.le_of_ble_eq_true rfl, Nat.le_of_ble_eq_true rfl⟩, ⟨(Nat.le_of_ble_eq_true rfl), (Nat.le_of_ble_eq_true rfl)⟩⟩ (Nat.le_of_ble_eq_true rfl) hl.1 rfl dX2_addPipe_45 (by subst hQ; exact cX_out F ⟨(Nat.le_of_ble_eq_true rfl), (Nat.le_of_ble_eq_true rfl)⟩ (fun q9 E9 σ9 hp9 => ⟨"argument", by rw [pipeR, if_pos hd23, if_neg (by rw [hp9.1]; decide)], hp9.2⟩)) (fun r114 σ114 H locs hp114 hW => ?_)
        obtain ⟨rfl, hs114, hd45⟩ := hp114
        rw [hs114] at hW
        refine W.eq (g2 := F0 m_ 48 ls ([])) rfl ?_
        refine lv_aload_n F.x F.cd dX2_addPipe_48 rfl (lv_at hl 0 rfl) ?_
        refine s_get F hW (ci := 1) (C := RX2) (T := TX2) (N := 6) (v := .ref (L 2)) (hWk.1) rfl in_X2 1 (by decide) q162 (fun _ h9 => h9) rfl dX2_addPipe_49 ?_
        refine s_callF (As := []) (rest := []) (C := RJ2) (T := TJ2) (N := 3) (n := 0) F hW (k_J2_size g l σ _ _ _ _ hP) (eP) rfl (List.mem_of_getElem? (i := 0) rfl) q317 q272 q274 q72 q276 (by decide +kernel) rfl ⟨⟨Nat.le_of_ble_eq_true rfl, Nat.le_of_ble_eq_true rfl⟩, ⟨(Nat.le_of_ble_eq_true rfl), (Nat.le_of_ble_eq_true rfl)⟩⟩ (Nat.le_of_ble_eq_true rfl) hl.1 rfl dX2_addPipe_52 cX_no (fun r115 σ115 H locs hp115 hW => ?_)
        obtain ⟨rfl, hs115⟩ := hp115
        rw [hs115] at hW
        refine W.eq (g2 := F0 m_ 57 ls (.int (nI (v 1)) :: [])) rfl ?_
        refine lv_bipush (v := (nI 12)) F.x F.cd dX2_addPipe_57 (by decide) ?_
        refine n_icmp_ge (a := v 1) (b := 12) (tgt := 66) F (by omega) (by omega) dX2_addPipe_59 (by decide) (fun c_59 => ?_) (fun c_59 => ?_)
        · refine lv_iconst (v := (nI 0)) F.x F.cd dX2_addPipe_66 (by decide) ?_
          refine W.eq (g2 := F0 m_ 67 ls (.int (bI (decide (v 1 < 12))) :: [])) (by rw [show decide (v 1 < 12) = false by simp; omega]; rfl) ?_
          refine s_ldcS F q1239 dX2_addPipe_67 ?_
          refine s_callSN (As := [.int (bI (decide (v 1 < 12))), .ref (gS g "FilterWaterworks$Works" 70)]) (rest := []) (n := 2) F hW (k_X1_demand g l σ (decide (v 1 < 12)) (gS g "FilterWaterworks$Works" 70) "state" ⟨"FilterWaterworks$Works", 70, q1239, rfl⟩) q1210 q1211 q68 q1212 (by decide +kernel) rfl ⟨⟨Nat.le_of_ble_eq_true rfl, Nat.le_of_ble_eq_true rfl⟩, ⟨(Nat.le_of_ble_eq_true rfl), (Nat.le_of_ble_eq_true rfl)⟩⟩ (Nat.le_of_ble_eq_true rfl) hl.1 rfl dX2_addPipe_69 (by subst hQ; exact cX_out F ⟨(Nat.le_of_ble_eq_true rfl), (Nat.le_of_ble_eq_true rfl)⟩ (fun q9 E9 σ9 hp9 => ⟨"state", by rw [pipeR, if_pos hd23, if_pos hd45, if_neg (of_decide_eq_false hp9.1)], hp9.2⟩)) (fun r116 σ116 H locs hp116 hW => ?_)
          obtain ⟨rfl, hs116, hd69⟩ := hp116
          rw [hs116] at hW
          refine W.eq (g2 := F0 m_ 72 ls ([])) rfl ?_
          have h1a := (Bool.and_eq_true _ _ ▸ hd23 : _ ∧ _)
          have h2a := (Bool.and_eq_true _ _ ▸ hd45 : _ ∧ _)
          obtain ⟨i, hi, rfl⟩ := (inN_iff (show v 0 < 2 ^ 30 by omega)).mp h1a.1
          obtain ⟨j, hj, rfl⟩ := (inN_iff (show v 0 < 2 ^ 30 by omega)).mp h1a.2
          obtain ⟨k, hk1, hk2, rfl⟩ := (btw_iff (by decide) (by decide)).mp h2a.2
          refine lv_aload_n F.x F.cd dX2_addPipe_72 rfl (lv_at hl 0 rfl) ?_
          refine s_get F hW (ci := 1) (C := RX2) (T := TX2) (N := 6) (v := .ref (L 2)) (hWk.1) rfl in_X2 1 (by decide) q162 (fun _ h9 => h9) rfl dX2_addPipe_73 ?_
          refine s_new F hW 9 (C := RX5) (T := TX5) (N := 7) (fs := [.int (nI 0), .int (nI 0), .int (nI 0), .int (nI 0), .int (nI 0), .int (nI 0), .int (nI 0)]) rfl in_X5 tyX5_ok q694 q1062 q96 (fun j hj => by rcases (show j = 0 ∨ j = 1 ∨ j = 2 ∨ j = 3 ∨ j = 4 ∨ j = 5 ∨ j = 6 by omega) with rfl | rfl | rfl | rfl | rfl | rfl | rfl <;> rfl) (Nat.le_of_ble_eq_true rfl) (Nat.le_of_ble_eq_true rfl) dX2_addPipe_76 (fun q117_ H hb_q117_ hn_q117_ hW => ?_)
          obtain ⟨σ118, hσ118⟩ : ∃ z, z = sset σ q117_ (.inr (9, [.int (nI 0), .int (nI 0), .int (nI 0), .int (nI 0), .int (nI 0), .int (nI 0), .int (nI 0)])) := ⟨_, rfl⟩
          have hW : Hl g σ118 H locs := by rw [hσ118]; exact hW
          have w118 : σ118 q117_ = some (.inr (9, [.int (nI 0), .int (nI 0), .int (nI 0), .int (nI 0), .int (nI 0), .int (nI 0), .int (nI 0)])) := by rw [hσ118]; exact sset_eq
          have f119 : σ118 (L 0) = some (.inr (1, [.ref (L 1), .ref (L 2), .int (nI (v 2)), .int (nI (v 3)), .int (nI (v 4)), .int (nI (v 5))])) := by rw [hσ118, sset_ne (sto_ne0 hn_q117_ hWk.1)]; exact hWk.1
          have f120 : σ118 (L 1) = some (.inr (2, [.int mcT, .ref (L 3), .int (nI (v 0))])) := by rw [hσ118, sset_ne (sto_ne0 hn_q117_ eT)]; exact eT
          have j121 := IsList.new (e := .inr (9, [.int (nI 0), .int (nI 0), .int (nI 0), .int (nI 0), .int (nI 0), .int (nI 0), .int (nI 0)])) (hT) (hn_q117_)
          rw [← hσ118] at j121
          have f122 : σ118 (L 2) = some (.inr (2, [.int mcP, .ref (L 4), .int (nI (v 1))])) := by rw [hσ118, sset_ne (sto_ne0 hn_q117_ eP)]; exact eP
          have j123 := IsList.new (e := .inr (9, [.int (nI 0), .int (nI 0), .int (nI 0), .int (nI 0), .int (nI 0), .int (nI 0), .int (nI 0)])) (hP) (hn_q117_)
          rw [← hσ118] at j123
          refine lv_dup F.x F.cd dX2_addPipe_79 rfl ?_
          refine lv_iload_n F.x F.cd dX2_addPipe_80 rfl (lv_at hl 1 rfl) ?_
          refine lv_iload_n F.x F.cd dX2_addPipe_81 rfl (lv_at hl 2 rfl) ?_
          refine lv_iload_n F.x F.cd dX2_addPipe_82 rfl (lv_at hl 3 rfl) ?_
          refine s_callI (As := [.int (nI i), .int (nI j), .int (nI k)]) (rest := [.ref q117_, .ref (L 2)]) (n := 3) F hW (k_X5_init g l σ118 q117_ i j k (w118) (hb_q117_)) q1256 q1064 q96 q1065 rfl (by decide +kernel) rfl ⟨⟨Nat.le_of_ble_eq_true rfl, Nat.le_of_ble_eq_true rfl⟩, ⟨(Nat.le_of_ble_eq_true rfl), (Nat.le_of_ble_eq_true rfl)⟩⟩ (Nat.le_of_ble_eq_true rfl) hl.1 rfl dX2_addPipe_83 cX_no (fun r124 σ124 H locs hp124 hW => ?_)
          obtain ⟨rfl, rfl⟩ := hp124
          refine W.eq (g2 := F0 m_ 86 ls (.ref q117_ :: .ref (L 2) :: [])) rfl ?_
          obtain ⟨σ124, hσ124⟩ : ∃ z, z = sset σ118 q117_ (oPipe i j k 0 0 0 0) := ⟨_, rfl⟩
          rw [← hσ124] at hW
          have w125 : σ124 q117_ = some (.inr (9, [.int (nI i), .int (nI j), .int (nI k), .int (nI 0), .int (nI 0), .int (nI 0), .int (nI 0)])) := by rw [hσ124]; exact sset_eq
          have f126 : σ124 (L 0) = some (.inr (1, [.ref (L 1), .ref (L 2), .int (nI (v 2)), .int (nI (v 3)), .int (nI (v 4)), .int (nI (v 5))])) := by rw [hσ124, sset_ne (sto_ne0 hn_q117_ hWk.1)]; exact f119
          have f127 : σ124 (L 1) = some (.inr (2, [.int mcT, .ref (L 3), .int (nI (v 0))])) := by rw [hσ124, sset_ne (sto_ne0 hn_q117_ eT)]; exact f120
          have j128 := IsList.setO (e := .inr (9, [.int (nI i), .int (nI j), .int (nI k), .int (nI 0), .int (nI 0), .int (nI 0), .int (nI 0)])) (j121) (w118) (by decide)
          rw [← hσ124] at j128
          have f129 : σ124 (L 2) = some (.inr (2, [.int mcP, .ref (L 4), .int (nI (v 1))])) := by rw [hσ124, sset_ne (sto_ne0 hn_q117_ eP)]; exact f122
          have j130 := IsList.setO (e := .inr (9, [.int (nI i), .int (nI j), .int (nI k), .int (nI 0), .int (nI 0), .int (nI 0), .int (nI 0)])) (j123) (w118) (by decide)
          rw [← hσ124] at j130
          refine s_callF (As := [.ref q117_]) (rest := []) (C := RJ2) (T := TJ2) (N := 3) (n := 1) F hW (k_J2_add g l σ124 (L 2) (L 4) (v 1) (fun t => L (100 + t)) q117_ 9 _ _ (j130) (w125) (by decide) rfl q2846 (by rw [hσ124, hσ118, sset_sset]; exact hWk.elmP.new hn_q117_) (by omega)) (f129) rfl (List.mem_of_getElem? (i := 2) rfl) q964 q967 q969 q72 q971 (by decide +kernel) rfl ⟨⟨Nat.le_of_ble_eq_true rfl, Nat.le_of_ble_eq_true rfl⟩, ⟨(Nat.le_of_ble_eq_true rfl), (Nat.le_of_ble_eq_true rfl)⟩⟩ (Nat.le_of_ble_eq_true rfl) hl.1 rfl dX2_addPipe_86 cX_no (fun r131 σ131 H locs hp131 hW => ?_)
          obtain ⟨rfl, hadd⟩ := hp131
          refine W.eq (g2 := F0 m_ 91 ls (.int (nI 1) :: [])) rfl ?_
          rw [hσ124, hσ118, sset_sset] at hadd
          have hDid := addP hWk hI.1 (of_decide_eq_true hd69) hn_q117_ hb_q117_ hadd (fun a ha => (hW.1.2.2.2 a ha).trans (hW00.1.2.2.2 a ha).symm) (F.cs.2.2.2.2.2.2.2.2 _ (by rw [F.cs.2.1]; simp))
          obtain ⟨L9, hW9, hL0, -, -⟩ := id hDid
          generalize hv9 : va_up (upP v (v 1) i j k 0 0 0 0) 1 (v 1 + 1) = v9 at hW9
          have hv90 : v9 1 = v 1 + 1 := by rw [← hv9, va_up_self]
          have hT9 := hW9.2.2.1
          have hP9 := hW9.2.2.2.1
          obtain ⟨mcT9, nT9, fT9, eT9, bT9, -⟩ := id hT9
          obtain ⟨mcP9, nP9, fP9, eP9, bP9, -⟩ := id hP9
          refine lv_pop F.x F.cd dX2_addPipe_91 rfl ?_
          refine lv_aload_n F.x F.cd dX2_addPipe_92 rfl (lv_at hl 0 rfl) ?_
          refine s_get F hW (ci := 1) (C := RX2) (T := TX2) (N := 6) (v := .ref (L9 2)) ((by rw [← hL0]; exact hW9.1)) rfl in_X2 1 (by decide) q162 (fun _ h9 => h9) rfl dX2_addPipe_93 ?_
          refine s_callF (As := []) (rest := []) (C := RJ2) (T := TJ2) (N := 3) (n := 0) F hW (k_J2_size g l σ131 _ _ _ _ hP9) (eP9) rfl (List.mem_of_getElem? (i := 0) rfl) q317 q272 q274 q72 q276 (by decide +kernel) rfl ⟨⟨Nat.le_of_ble_eq_true rfl, Nat.le_of_ble_eq_true rfl⟩, ⟨(Nat.le_of_ble_eq_true rfl), (Nat.le_of_ble_eq_true rfl)⟩⟩ (Nat.le_of_ble_eq_true rfl) hl.1 rfl dX2_addPipe_96 cX_no (fun r132 σ132 H locs hp132 hW => ?_)
          obtain ⟨rfl, hs132⟩ := hp132
          rw [hs132] at hW
          refine W.eq (g2 := F0 m_ 101 ls (.int (nI (v9 1)) :: [])) rfl ?_
          refine lv_iconst (v := (nI 1)) F.x F.cd dX2_addPipe_101 (by decide) ?_
          refine a_isub (v := (nI (v 1))) F (by rw [hv90]; exact pk_sub (by omega)) dX2_addPipe_102 ?_
          subst hQ
          exact s_reti (v := (nI (v 1))) F hW rfl (⟨_, _, by rw [pipeR, if_pos hd23, if_pos hd45, if_pos (of_decide_eq_true hd69), cl_nI (by omega), cl_nI (by omega), cl_nI (by omega)], rfl, hDid⟩) ⟨(Nat.le_of_ble_eq_true rfl), (Nat.le_of_ble_eq_true rfl)⟩ dX2_addPipe_103
        · refine lv_iconst (v := (nI 1)) F.x F.cd dX2_addPipe_62 (by decide) ?_
          refine lv_goto (tgt := 67) F.x F.cd dX2_addPipe_63 (by decide) ?_
          refine W.eq (g2 := F0 m_ 67 ls (.int (bI (decide (v 1 < 12))) :: [])) (by rw [show decide (v 1 < 12) = true by simp; omega]; rfl) ?_
          refine s_ldcS F q1239 dX2_addPipe_67 ?_
          refine s_callSN (As := [.int (bI (decide (v 1 < 12))), .ref (gS g "FilterWaterworks$Works" 70)]) (rest := []) (n := 2) F hW (k_X1_demand g l σ (decide (v 1 < 12)) (gS g "FilterWaterworks$Works" 70) "state" ⟨"FilterWaterworks$Works", 70, q1239, rfl⟩) q1210 q1211 q68 q1212 (by decide +kernel) rfl ⟨⟨Nat.le_of_ble_eq_true rfl, Nat.le_of_ble_eq_true rfl⟩, ⟨(Nat.le_of_ble_eq_true rfl), (Nat.le_of_ble_eq_true rfl)⟩⟩ (Nat.le_of_ble_eq_true rfl) hl.1 rfl dX2_addPipe_69 (by subst hQ; exact cX_out F ⟨(Nat.le_of_ble_eq_true rfl), (Nat.le_of_ble_eq_true rfl)⟩ (fun q9 E9 σ9 hp9 => ⟨"state", by rw [pipeR, if_pos hd23, if_pos hd45, if_neg (of_decide_eq_false hp9.1)], hp9.2⟩)) (fun r133 σ133 H locs hp133 hW => ?_)
          obtain ⟨rfl, hs133, hd69⟩ := hp133
          rw [hs133] at hW
          refine W.eq (g2 := F0 m_ 72 ls ([])) rfl ?_
          have h1a := (Bool.and_eq_true _ _ ▸ hd23 : _ ∧ _)
          have h2a := (Bool.and_eq_true _ _ ▸ hd45 : _ ∧ _)
          obtain ⟨i, hi, rfl⟩ := (inN_iff (show v 0 < 2 ^ 30 by omega)).mp h1a.1
          obtain ⟨j, hj, rfl⟩ := (inN_iff (show v 0 < 2 ^ 30 by omega)).mp h1a.2
          obtain ⟨k, hk1, hk2, rfl⟩ := (btw_iff (by decide) (by decide)).mp h2a.2
          refine lv_aload_n F.x F.cd dX2_addPipe_72 rfl (lv_at hl 0 rfl) ?_
          refine s_get F hW (ci := 1) (C := RX2) (T := TX2) (N := 6) (v := .ref (L 2)) (hWk.1) rfl in_X2 1 (by decide) q162 (fun _ h9 => h9) rfl dX2_addPipe_73 ?_
          refine s_new F hW 9 (C := RX5) (T := TX5) (N := 7) (fs := [.int (nI 0), .int (nI 0), .int (nI 0), .int (nI 0), .int (nI 0), .int (nI 0), .int (nI 0)]) rfl in_X5 tyX5_ok q694 q1062 q96 (fun j hj => by rcases (show j = 0 ∨ j = 1 ∨ j = 2 ∨ j = 3 ∨ j = 4 ∨ j = 5 ∨ j = 6 by omega) with rfl | rfl | rfl | rfl | rfl | rfl | rfl <;> rfl) (Nat.le_of_ble_eq_true rfl) (Nat.le_of_ble_eq_true rfl) dX2_addPipe_76 (fun q134_ H hb_q134_ hn_q134_ hW => ?_)
          obtain ⟨σ135, hσ135⟩ : ∃ z, z = sset σ q134_ (.inr (9, [.int (nI 0), .int (nI 0), .int (nI 0), .int (nI 0), .int (nI 0), .int (nI 0), .int (nI 0)])) := ⟨_, rfl⟩
          have hW : Hl g σ135 H locs := by rw [hσ135]; exact hW
          have w135 : σ135 q134_ = some (.inr (9, [.int (nI 0), .int (nI 0), .int (nI 0), .int (nI 0), .int (nI 0), .int (nI 0), .int (nI 0)])) := by rw [hσ135]; exact sset_eq
          have f136 : σ135 (L 0) = some (.inr (1, [.ref (L 1), .ref (L 2), .int (nI (v 2)), .int (nI (v 3)), .int (nI (v 4)), .int (nI (v 5))])) := by rw [hσ135, sset_ne (sto_ne0 hn_q134_ hWk.1)]; exact hWk.1
          have f137 : σ135 (L 1) = some (.inr (2, [.int mcT, .ref (L 3), .int (nI (v 0))])) := by rw [hσ135, sset_ne (sto_ne0 hn_q134_ eT)]; exact eT
          have j138 := IsList.new (e := .inr (9, [.int (nI 0), .int (nI 0), .int (nI 0), .int (nI 0), .int (nI 0), .int (nI 0), .int (nI 0)])) (hT) (hn_q134_)
          rw [← hσ135] at j138
          have f139 : σ135 (L 2) = some (.inr (2, [.int mcP, .ref (L 4), .int (nI (v 1))])) := by rw [hσ135, sset_ne (sto_ne0 hn_q134_ eP)]; exact eP
          have j140 := IsList.new (e := .inr (9, [.int (nI 0), .int (nI 0), .int (nI 0), .int (nI 0), .int (nI 0), .int (nI 0), .int (nI 0)])) (hP) (hn_q134_)
          rw [← hσ135] at j140
          refine lv_dup F.x F.cd dX2_addPipe_79 rfl ?_
          refine lv_iload_n F.x F.cd dX2_addPipe_80 rfl (lv_at hl 1 rfl) ?_
          refine lv_iload_n F.x F.cd dX2_addPipe_81 rfl (lv_at hl 2 rfl) ?_
          refine lv_iload_n F.x F.cd dX2_addPipe_82 rfl (lv_at hl 3 rfl) ?_
          refine s_callI (As := [.int (nI i), .int (nI j), .int (nI k)]) (rest := [.ref q134_, .ref (L 2)]) (n := 3) F hW (k_X5_init g l σ135 q134_ i j k (w135) (hb_q134_)) q1256 q1064 q96 q1065 rfl (by decide +kernel) rfl ⟨⟨Nat.le_of_ble_eq_true rfl, Nat.le_of_ble_eq_true rfl⟩, ⟨(Nat.le_of_ble_eq_true rfl), (Nat.le_of_ble_eq_true rfl)⟩⟩ (Nat.le_of_ble_eq_true rfl) hl.1 rfl dX2_addPipe_83 cX_no (fun r141 σ141 H locs hp141 hW => ?_)
          obtain ⟨rfl, rfl⟩ := hp141
          refine W.eq (g2 := F0 m_ 86 ls (.ref q134_ :: .ref (L 2) :: [])) rfl ?_
          obtain ⟨σ141, hσ141⟩ : ∃ z, z = sset σ135 q134_ (oPipe i j k 0 0 0 0) := ⟨_, rfl⟩
          rw [← hσ141] at hW
          have w142 : σ141 q134_ = some (.inr (9, [.int (nI i), .int (nI j), .int (nI k), .int (nI 0), .int (nI 0), .int (nI 0), .int (nI 0)])) := by rw [hσ141]; exact sset_eq
          have f143 : σ141 (L 0) = some (.inr (1, [.ref (L 1), .ref (L 2), .int (nI (v 2)), .int (nI (v 3)), .int (nI (v 4)), .int (nI (v 5))])) := by rw [hσ141, sset_ne (sto_ne0 hn_q134_ hWk.1)]; exact f136
          have f144 : σ141 (L 1) = some (.inr (2, [.int mcT, .ref (L 3), .int (nI (v 0))])) := by rw [hσ141, sset_ne (sto_ne0 hn_q134_ eT)]; exact f137
          have j145 := IsList.setO (e := .inr (9, [.int (nI i), .int (nI j), .int (nI k), .int (nI 0), .int (nI 0), .int (nI 0), .int (nI 0)])) (j138) (w135) (by decide)
          rw [← hσ141] at j145
          have f146 : σ141 (L 2) = some (.inr (2, [.int mcP, .ref (L 4), .int (nI (v 1))])) := by rw [hσ141, sset_ne (sto_ne0 hn_q134_ eP)]; exact f139
          have j147 := IsList.setO (e := .inr (9, [.int (nI i), .int (nI j), .int (nI k), .int (nI 0), .int (nI 0), .int (nI 0), .int (nI 0)])) (j140) (w135) (by decide)
          rw [← hσ141] at j147
          refine s_callF (As := [.ref q134_]) (rest := []) (C := RJ2) (T := TJ2) (N := 3) (n := 1) F hW (k_J2_add g l σ141 (L 2) (L 4) (v 1) (fun t => L (100 + t)) q134_ 9 _ _ (j147) (w142) (by decide) rfl q2846 (by rw [hσ141, hσ135, sset_sset]; exact hWk.elmP.new hn_q134_) (by omega)) (f146) rfl (List.mem_of_getElem? (i := 2) rfl) q964 q967 q969 q72 q971 (by decide +kernel) rfl ⟨⟨Nat.le_of_ble_eq_true rfl, Nat.le_of_ble_eq_true rfl⟩, ⟨(Nat.le_of_ble_eq_true rfl), (Nat.le_of_ble_eq_true rfl)⟩⟩ (Nat.le_of_ble_eq_true rfl) hl.1 rfl dX2_addPipe_86 cX_no (fun r148 σ148 H locs hp148 hW => ?_)
          obtain ⟨rfl, hadd⟩ := hp148
          refine W.eq (g2 := F0 m_ 91 ls (.int (nI 1) :: [])) rfl ?_
          rw [hσ141, hσ135, sset_sset] at hadd
          have hDid := addP hWk hI.1 (of_decide_eq_true hd69) hn_q134_ hb_q134_ hadd (fun a ha => (hW.1.2.2.2 a ha).trans (hW00.1.2.2.2 a ha).symm) (F.cs.2.2.2.2.2.2.2.2 _ (by rw [F.cs.2.1]; simp))
          obtain ⟨L9, hW9, hL0, -, -⟩ := id hDid
          generalize hv9 : va_up (upP v (v 1) i j k 0 0 0 0) 1 (v 1 + 1) = v9 at hW9
          have hv90 : v9 1 = v 1 + 1 := by rw [← hv9, va_up_self]
          have hT9 := hW9.2.2.1
          have hP9 := hW9.2.2.2.1
          obtain ⟨mcT9, nT9, fT9, eT9, bT9, -⟩ := id hT9
          obtain ⟨mcP9, nP9, fP9, eP9, bP9, -⟩ := id hP9
          refine lv_pop F.x F.cd dX2_addPipe_91 rfl ?_
          refine lv_aload_n F.x F.cd dX2_addPipe_92 rfl (lv_at hl 0 rfl) ?_
          refine s_get F hW (ci := 1) (C := RX2) (T := TX2) (N := 6) (v := .ref (L9 2)) ((by rw [← hL0]; exact hW9.1)) rfl in_X2 1 (by decide) q162 (fun _ h9 => h9) rfl dX2_addPipe_93 ?_
          refine s_callF (As := []) (rest := []) (C := RJ2) (T := TJ2) (N := 3) (n := 0) F hW (k_J2_size g l σ148 _ _ _ _ hP9) (eP9) rfl (List.mem_of_getElem? (i := 0) rfl) q317 q272 q274 q72 q276 (by decide +kernel) rfl ⟨⟨Nat.le_of_ble_eq_true rfl, Nat.le_of_ble_eq_true rfl⟩, ⟨(Nat.le_of_ble_eq_true rfl), (Nat.le_of_ble_eq_true rfl)⟩⟩ (Nat.le_of_ble_eq_true rfl) hl.1 rfl dX2_addPipe_96 cX_no (fun r149 σ149 H locs hp149 hW => ?_)
          obtain ⟨rfl, hs149⟩ := hp149
          rw [hs149] at hW
          refine W.eq (g2 := F0 m_ 101 ls (.int (nI (v9 1)) :: [])) rfl ?_
          refine lv_iconst (v := (nI 1)) F.x F.cd dX2_addPipe_101 (by decide) ?_
          refine a_isub (v := (nI (v 1))) F (by rw [hv90]; exact pk_sub (by omega)) dX2_addPipe_102 ?_
          subst hQ
          exact s_reti (v := (nI (v 1))) F hW rfl (⟨_, _, by rw [pipeR, if_pos hd23, if_pos hd45, if_pos (of_decide_eq_true hd69), cl_nI (by omega), cl_nI (by omega), cl_nI (by omega)], rfl, hDid⟩) ⟨(Nat.le_of_ble_eq_true rfl), (Nat.le_of_ble_eq_true rfl)⟩ dX2_addPipe_103
      · refine lv_iload_n F.x F.cd dX2_addPipe_31 rfl (lv_at hl 3 rfl) ?_
        refine s_callSN (As := [.int s]) (rest := []) (n := 1) F hW (k_X1_isSet g l σ s) q1252 q1253 q68 q1254 (by decide +kernel) rfl ⟨⟨Nat.le_of_ble_eq_true rfl, Nat.le_of_ble_eq_true rfl⟩, ⟨(Nat.le_of_ble_eq_true rfl), (Nat.le_of_ble_eq_true rfl)⟩⟩ (Nat.le_of_ble_eq_true rfl) hl.1 rfl dX2_addPipe_32 cX_no (fun r150 σ150 H locs hp150 hW => ?_)
        obtain ⟨rfl, hs150⟩ := hp150
        rw [hs150] at hW
        refine W.eq (g2 := F0 m_ 35 ls (.int (bI (btw s (nI 0) (nI 255))) :: [])) rfl ?_
        refine b_if_eq (b := (btw s (nI 0) (nI 255))) (tgt := 42) F dX2_addPipe_35 (by decide) (fun c_35 => ?_) (fun c_35 => ?_)
        · refine lv_iconst (v := (nI 0)) F.x F.cd dX2_addPipe_42 (by decide) ?_
          refine W.eq (g2 := F0 m_ 43 ls (.int (bI (decide (x ≠ y) && btw s (nI 0) (nI 255))) :: [])) (by rw [show (decide (x ≠ y) && btw s (nI 0) (nI 255)) = false by simp [c_28, c_35]]; rfl) ?_
          refine s_ldcS F q1209 dX2_addPipe_43 ?_
          refine s_callSN (As := [.int (bI (decide (x ≠ y) && btw s (nI 0) (nI 255))), .ref (gS g "FilterWaterworks$Works" 64)]) (rest := []) (n := 2) F hW (k_X1_demand g l σ (decide (x ≠ y) && btw s (nI 0) (nI 255)) (gS g "FilterWaterworks$Works" 64) "argument" ⟨"FilterWaterworks$Works", 64, q1209, rfl⟩) q1210 q1211 q68 q1212 (by decide +kernel) rfl ⟨⟨Nat.le_of_ble_eq_true rfl, Nat.le_of_ble_eq_true rfl⟩, ⟨(Nat.le_of_ble_eq_true rfl), (Nat.le_of_ble_eq_true rfl)⟩⟩ (Nat.le_of_ble_eq_true rfl) hl.1 rfl dX2_addPipe_45 (by subst hQ; exact cX_out F ⟨(Nat.le_of_ble_eq_true rfl), (Nat.le_of_ble_eq_true rfl)⟩ (fun q9 E9 σ9 hp9 => ⟨"argument", by rw [pipeR, if_pos hd23, if_neg (by rw [hp9.1]; decide)], hp9.2⟩)) (fun r151 σ151 H locs hp151 hW => ?_)
          obtain ⟨rfl, hs151, hd45⟩ := hp151
          rw [hs151] at hW
          refine W.eq (g2 := F0 m_ 48 ls ([])) rfl ?_
          refine lv_aload_n F.x F.cd dX2_addPipe_48 rfl (lv_at hl 0 rfl) ?_
          refine s_get F hW (ci := 1) (C := RX2) (T := TX2) (N := 6) (v := .ref (L 2)) (hWk.1) rfl in_X2 1 (by decide) q162 (fun _ h9 => h9) rfl dX2_addPipe_49 ?_
          refine s_callF (As := []) (rest := []) (C := RJ2) (T := TJ2) (N := 3) (n := 0) F hW (k_J2_size g l σ _ _ _ _ hP) (eP) rfl (List.mem_of_getElem? (i := 0) rfl) q317 q272 q274 q72 q276 (by decide +kernel) rfl ⟨⟨Nat.le_of_ble_eq_true rfl, Nat.le_of_ble_eq_true rfl⟩, ⟨(Nat.le_of_ble_eq_true rfl), (Nat.le_of_ble_eq_true rfl)⟩⟩ (Nat.le_of_ble_eq_true rfl) hl.1 rfl dX2_addPipe_52 cX_no (fun r152 σ152 H locs hp152 hW => ?_)
          obtain ⟨rfl, hs152⟩ := hp152
          rw [hs152] at hW
          refine W.eq (g2 := F0 m_ 57 ls (.int (nI (v 1)) :: [])) rfl ?_
          refine lv_bipush (v := (nI 12)) F.x F.cd dX2_addPipe_57 (by decide) ?_
          refine n_icmp_ge (a := v 1) (b := 12) (tgt := 66) F (by omega) (by omega) dX2_addPipe_59 (by decide) (fun c_59 => ?_) (fun c_59 => ?_)
          · refine lv_iconst (v := (nI 0)) F.x F.cd dX2_addPipe_66 (by decide) ?_
            refine W.eq (g2 := F0 m_ 67 ls (.int (bI (decide (v 1 < 12))) :: [])) (by rw [show decide (v 1 < 12) = false by simp; omega]; rfl) ?_
            refine s_ldcS F q1239 dX2_addPipe_67 ?_
            refine s_callSN (As := [.int (bI (decide (v 1 < 12))), .ref (gS g "FilterWaterworks$Works" 70)]) (rest := []) (n := 2) F hW (k_X1_demand g l σ (decide (v 1 < 12)) (gS g "FilterWaterworks$Works" 70) "state" ⟨"FilterWaterworks$Works", 70, q1239, rfl⟩) q1210 q1211 q68 q1212 (by decide +kernel) rfl ⟨⟨Nat.le_of_ble_eq_true rfl, Nat.le_of_ble_eq_true rfl⟩, ⟨(Nat.le_of_ble_eq_true rfl), (Nat.le_of_ble_eq_true rfl)⟩⟩ (Nat.le_of_ble_eq_true rfl) hl.1 rfl dX2_addPipe_69 (by subst hQ; exact cX_out F ⟨(Nat.le_of_ble_eq_true rfl), (Nat.le_of_ble_eq_true rfl)⟩ (fun q9 E9 σ9 hp9 => ⟨"state", by rw [pipeR, if_pos hd23, if_pos hd45, if_neg (of_decide_eq_false hp9.1)], hp9.2⟩)) (fun r153 σ153 H locs hp153 hW => ?_)
            obtain ⟨rfl, hs153, hd69⟩ := hp153
            rw [hs153] at hW
            refine W.eq (g2 := F0 m_ 72 ls ([])) rfl ?_
            have h1a := (Bool.and_eq_true _ _ ▸ hd23 : _ ∧ _)
            have h2a := (Bool.and_eq_true _ _ ▸ hd45 : _ ∧ _)
            obtain ⟨i, hi, rfl⟩ := (inN_iff (show v 0 < 2 ^ 30 by omega)).mp h1a.1
            obtain ⟨j, hj, rfl⟩ := (inN_iff (show v 0 < 2 ^ 30 by omega)).mp h1a.2
            obtain ⟨k, hk1, hk2, rfl⟩ := (btw_iff (by decide) (by decide)).mp h2a.2
            refine lv_aload_n F.x F.cd dX2_addPipe_72 rfl (lv_at hl 0 rfl) ?_
            refine s_get F hW (ci := 1) (C := RX2) (T := TX2) (N := 6) (v := .ref (L 2)) (hWk.1) rfl in_X2 1 (by decide) q162 (fun _ h9 => h9) rfl dX2_addPipe_73 ?_
            refine s_new F hW 9 (C := RX5) (T := TX5) (N := 7) (fs := [.int (nI 0), .int (nI 0), .int (nI 0), .int (nI 0), .int (nI 0), .int (nI 0), .int (nI 0)]) rfl in_X5 tyX5_ok q694 q1062 q96 (fun j hj => by rcases (show j = 0 ∨ j = 1 ∨ j = 2 ∨ j = 3 ∨ j = 4 ∨ j = 5 ∨ j = 6 by omega) with rfl | rfl | rfl | rfl | rfl | rfl | rfl <;> rfl) (Nat.le_of_ble_eq_true rfl) (Nat.le_of_ble_eq_true rfl) dX2_addPipe_76 (fun q154_ H hb_q154_ hn_q154_ hW => ?_)
            obtain ⟨σ155, hσ155⟩ : ∃ z, z = sset σ q154_ (.inr (9, [.int (nI 0), .int (nI 0), .int (nI 0), .int (nI 0), .int (nI 0), .int (nI 0), .int (nI 0)])) := ⟨_, rfl⟩
            have hW : Hl g σ155 H locs := by rw [hσ155]; exact hW
            have w155 : σ155 q154_ = some (.inr (9, [.int (nI 0), .int (nI 0), .int (nI 0), .int (nI 0), .int (nI 0), .int (nI 0), .int (nI 0)])) := by rw [hσ155]; exact sset_eq
            have f156 : σ155 (L 0) = some (.inr (1, [.ref (L 1), .ref (L 2), .int (nI (v 2)), .int (nI (v 3)), .int (nI (v 4)), .int (nI (v 5))])) := by rw [hσ155, sset_ne (sto_ne0 hn_q154_ hWk.1)]; exact hWk.1
            have f157 : σ155 (L 1) = some (.inr (2, [.int mcT, .ref (L 3), .int (nI (v 0))])) := by rw [hσ155, sset_ne (sto_ne0 hn_q154_ eT)]; exact eT
            have j158 := IsList.new (e := .inr (9, [.int (nI 0), .int (nI 0), .int (nI 0), .int (nI 0), .int (nI 0), .int (nI 0), .int (nI 0)])) (hT) (hn_q154_)
            rw [← hσ155] at j158
            have f159 : σ155 (L 2) = some (.inr (2, [.int mcP, .ref (L 4), .int (nI (v 1))])) := by rw [hσ155, sset_ne (sto_ne0 hn_q154_ eP)]; exact eP
            have j160 := IsList.new (e := .inr (9, [.int (nI 0), .int (nI 0), .int (nI 0), .int (nI 0), .int (nI 0), .int (nI 0), .int (nI 0)])) (hP) (hn_q154_)
            rw [← hσ155] at j160
            refine lv_dup F.x F.cd dX2_addPipe_79 rfl ?_
            refine lv_iload_n F.x F.cd dX2_addPipe_80 rfl (lv_at hl 1 rfl) ?_
            refine lv_iload_n F.x F.cd dX2_addPipe_81 rfl (lv_at hl 2 rfl) ?_
            refine lv_iload_n F.x F.cd dX2_addPipe_82 rfl (lv_at hl 3 rfl) ?_
            refine s_callI (As := [.int (nI i), .int (nI j), .int (nI k)]) (rest := [.ref q154_, .ref (L 2)]) (n := 3) F hW (k_X5_init g l σ155 q154_ i j k (w155) (hb_q154_)) q1256 q1064 q96 q1065 rfl (by decide +kernel) rfl ⟨⟨Nat.le_of_ble_eq_true rfl, Nat.le_of_ble_eq_true rfl⟩, ⟨(Nat.le_of_ble_eq_true rfl), (Nat.le_of_ble_eq_true rfl)⟩⟩ (Nat.le_of_ble_eq_true rfl) hl.1 rfl dX2_addPipe_83 cX_no (fun r161 σ161 H locs hp161 hW => ?_)
            obtain ⟨rfl, rfl⟩ := hp161
            refine W.eq (g2 := F0 m_ 86 ls (.ref q154_ :: .ref (L 2) :: [])) rfl ?_
            obtain ⟨σ161, hσ161⟩ : ∃ z, z = sset σ155 q154_ (oPipe i j k 0 0 0 0) := ⟨_, rfl⟩
            rw [← hσ161] at hW
            have w162 : σ161 q154_ = some (.inr (9, [.int (nI i), .int (nI j), .int (nI k), .int (nI 0), .int (nI 0), .int (nI 0), .int (nI 0)])) := by rw [hσ161]; exact sset_eq
            have f163 : σ161 (L 0) = some (.inr (1, [.ref (L 1), .ref (L 2), .int (nI (v 2)), .int (nI (v 3)), .int (nI (v 4)), .int (nI (v 5))])) := by rw [hσ161, sset_ne (sto_ne0 hn_q154_ hWk.1)]; exact f156
            have f164 : σ161 (L 1) = some (.inr (2, [.int mcT, .ref (L 3), .int (nI (v 0))])) := by rw [hσ161, sset_ne (sto_ne0 hn_q154_ eT)]; exact f157
            have j165 := IsList.setO (e := .inr (9, [.int (nI i), .int (nI j), .int (nI k), .int (nI 0), .int (nI 0), .int (nI 0), .int (nI 0)])) (j158) (w155) (by decide)
            rw [← hσ161] at j165
            have f166 : σ161 (L 2) = some (.inr (2, [.int mcP, .ref (L 4), .int (nI (v 1))])) := by rw [hσ161, sset_ne (sto_ne0 hn_q154_ eP)]; exact f159
            have j167 := IsList.setO (e := .inr (9, [.int (nI i), .int (nI j), .int (nI k), .int (nI 0), .int (nI 0), .int (nI 0), .int (nI 0)])) (j160) (w155) (by decide)
            rw [← hσ161] at j167
            refine s_callF (As := [.ref q154_]) (rest := []) (C := RJ2) (T := TJ2) (N := 3) (n := 1) F hW (k_J2_add g l σ161 (L 2) (L 4) (v 1) (fun t => L (100 + t)) q154_ 9 _ _ (j167) (w162) (by decide) rfl q2846 (by rw [hσ161, hσ155, sset_sset]; exact hWk.elmP.new hn_q154_) (by omega)) (f166) rfl (List.mem_of_getElem? (i := 2) rfl) q964 q967 q969 q72 q971 (by decide +kernel) rfl ⟨⟨Nat.le_of_ble_eq_true rfl, Nat.le_of_ble_eq_true rfl⟩, ⟨(Nat.le_of_ble_eq_true rfl), (Nat.le_of_ble_eq_true rfl)⟩⟩ (Nat.le_of_ble_eq_true rfl) hl.1 rfl dX2_addPipe_86 cX_no (fun r168 σ168 H locs hp168 hW => ?_)
            obtain ⟨rfl, hadd⟩ := hp168
            refine W.eq (g2 := F0 m_ 91 ls (.int (nI 1) :: [])) rfl ?_
            rw [hσ161, hσ155, sset_sset] at hadd
            have hDid := addP hWk hI.1 (of_decide_eq_true hd69) hn_q154_ hb_q154_ hadd (fun a ha => (hW.1.2.2.2 a ha).trans (hW00.1.2.2.2 a ha).symm) (F.cs.2.2.2.2.2.2.2.2 _ (by rw [F.cs.2.1]; simp))
            obtain ⟨L9, hW9, hL0, -, -⟩ := id hDid
            generalize hv9 : va_up (upP v (v 1) i j k 0 0 0 0) 1 (v 1 + 1) = v9 at hW9
            have hv90 : v9 1 = v 1 + 1 := by rw [← hv9, va_up_self]
            have hT9 := hW9.2.2.1
            have hP9 := hW9.2.2.2.1
            obtain ⟨mcT9, nT9, fT9, eT9, bT9, -⟩ := id hT9
            obtain ⟨mcP9, nP9, fP9, eP9, bP9, -⟩ := id hP9
            refine lv_pop F.x F.cd dX2_addPipe_91 rfl ?_
            refine lv_aload_n F.x F.cd dX2_addPipe_92 rfl (lv_at hl 0 rfl) ?_
            refine s_get F hW (ci := 1) (C := RX2) (T := TX2) (N := 6) (v := .ref (L9 2)) ((by rw [← hL0]; exact hW9.1)) rfl in_X2 1 (by decide) q162 (fun _ h9 => h9) rfl dX2_addPipe_93 ?_
            refine s_callF (As := []) (rest := []) (C := RJ2) (T := TJ2) (N := 3) (n := 0) F hW (k_J2_size g l σ168 _ _ _ _ hP9) (eP9) rfl (List.mem_of_getElem? (i := 0) rfl) q317 q272 q274 q72 q276 (by decide +kernel) rfl ⟨⟨Nat.le_of_ble_eq_true rfl, Nat.le_of_ble_eq_true rfl⟩, ⟨(Nat.le_of_ble_eq_true rfl), (Nat.le_of_ble_eq_true rfl)⟩⟩ (Nat.le_of_ble_eq_true rfl) hl.1 rfl dX2_addPipe_96 cX_no (fun r169 σ169 H locs hp169 hW => ?_)
            obtain ⟨rfl, hs169⟩ := hp169
            rw [hs169] at hW
            refine W.eq (g2 := F0 m_ 101 ls (.int (nI (v9 1)) :: [])) rfl ?_
            refine lv_iconst (v := (nI 1)) F.x F.cd dX2_addPipe_101 (by decide) ?_
            refine a_isub (v := (nI (v 1))) F (by rw [hv90]; exact pk_sub (by omega)) dX2_addPipe_102 ?_
            subst hQ
            exact s_reti (v := (nI (v 1))) F hW rfl (⟨_, _, by rw [pipeR, if_pos hd23, if_pos hd45, if_pos (of_decide_eq_true hd69), cl_nI (by omega), cl_nI (by omega), cl_nI (by omega)], rfl, hDid⟩) ⟨(Nat.le_of_ble_eq_true rfl), (Nat.le_of_ble_eq_true rfl)⟩ dX2_addPipe_103
          · refine lv_iconst (v := (nI 1)) F.x F.cd dX2_addPipe_62 (by decide) ?_
            refine lv_goto (tgt := 67) F.x F.cd dX2_addPipe_63 (by decide) ?_
            refine W.eq (g2 := F0 m_ 67 ls (.int (bI (decide (v 1 < 12))) :: [])) (by rw [show decide (v 1 < 12) = true by simp; omega]; rfl) ?_
            refine s_ldcS F q1239 dX2_addPipe_67 ?_
            refine s_callSN (As := [.int (bI (decide (v 1 < 12))), .ref (gS g "FilterWaterworks$Works" 70)]) (rest := []) (n := 2) F hW (k_X1_demand g l σ (decide (v 1 < 12)) (gS g "FilterWaterworks$Works" 70) "state" ⟨"FilterWaterworks$Works", 70, q1239, rfl⟩) q1210 q1211 q68 q1212 (by decide +kernel) rfl ⟨⟨Nat.le_of_ble_eq_true rfl, Nat.le_of_ble_eq_true rfl⟩, ⟨(Nat.le_of_ble_eq_true rfl), (Nat.le_of_ble_eq_true rfl)⟩⟩ (Nat.le_of_ble_eq_true rfl) hl.1 rfl dX2_addPipe_69 (by subst hQ; exact cX_out F ⟨(Nat.le_of_ble_eq_true rfl), (Nat.le_of_ble_eq_true rfl)⟩ (fun q9 E9 σ9 hp9 => ⟨"state", by rw [pipeR, if_pos hd23, if_pos hd45, if_neg (of_decide_eq_false hp9.1)], hp9.2⟩)) (fun r170 σ170 H locs hp170 hW => ?_)
            obtain ⟨rfl, hs170, hd69⟩ := hp170
            rw [hs170] at hW
            refine W.eq (g2 := F0 m_ 72 ls ([])) rfl ?_
            have h1a := (Bool.and_eq_true _ _ ▸ hd23 : _ ∧ _)
            have h2a := (Bool.and_eq_true _ _ ▸ hd45 : _ ∧ _)
            obtain ⟨i, hi, rfl⟩ := (inN_iff (show v 0 < 2 ^ 30 by omega)).mp h1a.1
            obtain ⟨j, hj, rfl⟩ := (inN_iff (show v 0 < 2 ^ 30 by omega)).mp h1a.2
            obtain ⟨k, hk1, hk2, rfl⟩ := (btw_iff (by decide) (by decide)).mp h2a.2
            refine lv_aload_n F.x F.cd dX2_addPipe_72 rfl (lv_at hl 0 rfl) ?_
            refine s_get F hW (ci := 1) (C := RX2) (T := TX2) (N := 6) (v := .ref (L 2)) (hWk.1) rfl in_X2 1 (by decide) q162 (fun _ h9 => h9) rfl dX2_addPipe_73 ?_
            refine s_new F hW 9 (C := RX5) (T := TX5) (N := 7) (fs := [.int (nI 0), .int (nI 0), .int (nI 0), .int (nI 0), .int (nI 0), .int (nI 0), .int (nI 0)]) rfl in_X5 tyX5_ok q694 q1062 q96 (fun j hj => by rcases (show j = 0 ∨ j = 1 ∨ j = 2 ∨ j = 3 ∨ j = 4 ∨ j = 5 ∨ j = 6 by omega) with rfl | rfl | rfl | rfl | rfl | rfl | rfl <;> rfl) (Nat.le_of_ble_eq_true rfl) (Nat.le_of_ble_eq_true rfl) dX2_addPipe_76 (fun q171_ H hb_q171_ hn_q171_ hW => ?_)
            obtain ⟨σ172, hσ172⟩ : ∃ z, z = sset σ q171_ (.inr (9, [.int (nI 0), .int (nI 0), .int (nI 0), .int (nI 0), .int (nI 0), .int (nI 0), .int (nI 0)])) := ⟨_, rfl⟩
            have hW : Hl g σ172 H locs := by rw [hσ172]; exact hW
            have w172 : σ172 q171_ = some (.inr (9, [.int (nI 0), .int (nI 0), .int (nI 0), .int (nI 0), .int (nI 0), .int (nI 0), .int (nI 0)])) := by rw [hσ172]; exact sset_eq
            have f173 : σ172 (L 0) = some (.inr (1, [.ref (L 1), .ref (L 2), .int (nI (v 2)), .int (nI (v 3)), .int (nI (v 4)), .int (nI (v 5))])) := by rw [hσ172, sset_ne (sto_ne0 hn_q171_ hWk.1)]; exact hWk.1
            have f174 : σ172 (L 1) = some (.inr (2, [.int mcT, .ref (L 3), .int (nI (v 0))])) := by rw [hσ172, sset_ne (sto_ne0 hn_q171_ eT)]; exact eT
            have j175 := IsList.new (e := .inr (9, [.int (nI 0), .int (nI 0), .int (nI 0), .int (nI 0), .int (nI 0), .int (nI 0), .int (nI 0)])) (hT) (hn_q171_)
            rw [← hσ172] at j175
            have f176 : σ172 (L 2) = some (.inr (2, [.int mcP, .ref (L 4), .int (nI (v 1))])) := by rw [hσ172, sset_ne (sto_ne0 hn_q171_ eP)]; exact eP
            have j177 := IsList.new (e := .inr (9, [.int (nI 0), .int (nI 0), .int (nI 0), .int (nI 0), .int (nI 0), .int (nI 0), .int (nI 0)])) (hP) (hn_q171_)
            rw [← hσ172] at j177
            refine lv_dup F.x F.cd dX2_addPipe_79 rfl ?_
            refine lv_iload_n F.x F.cd dX2_addPipe_80 rfl (lv_at hl 1 rfl) ?_
            refine lv_iload_n F.x F.cd dX2_addPipe_81 rfl (lv_at hl 2 rfl) ?_
            refine lv_iload_n F.x F.cd dX2_addPipe_82 rfl (lv_at hl 3 rfl) ?_
            refine s_callI (As := [.int (nI i), .int (nI j), .int (nI k)]) (rest := [.ref q171_, .ref (L 2)]) (n := 3) F hW (k_X5_init g l σ172 q171_ i j k (w172) (hb_q171_)) q1256 q1064 q96 q1065 rfl (by decide +kernel) rfl ⟨⟨Nat.le_of_ble_eq_true rfl, Nat.le_of_ble_eq_true rfl⟩, ⟨(Nat.le_of_ble_eq_true rfl), (Nat.le_of_ble_eq_true rfl)⟩⟩ (Nat.le_of_ble_eq_true rfl) hl.1 rfl dX2_addPipe_83 cX_no (fun r178 σ178 H locs hp178 hW => ?_)
            obtain ⟨rfl, rfl⟩ := hp178
            refine W.eq (g2 := F0 m_ 86 ls (.ref q171_ :: .ref (L 2) :: [])) rfl ?_
            obtain ⟨σ178, hσ178⟩ : ∃ z, z = sset σ172 q171_ (oPipe i j k 0 0 0 0) := ⟨_, rfl⟩
            rw [← hσ178] at hW
            have w179 : σ178 q171_ = some (.inr (9, [.int (nI i), .int (nI j), .int (nI k), .int (nI 0), .int (nI 0), .int (nI 0), .int (nI 0)])) := by rw [hσ178]; exact sset_eq
            have f180 : σ178 (L 0) = some (.inr (1, [.ref (L 1), .ref (L 2), .int (nI (v 2)), .int (nI (v 3)), .int (nI (v 4)), .int (nI (v 5))])) := by rw [hσ178, sset_ne (sto_ne0 hn_q171_ hWk.1)]; exact f173
            have f181 : σ178 (L 1) = some (.inr (2, [.int mcT, .ref (L 3), .int (nI (v 0))])) := by rw [hσ178, sset_ne (sto_ne0 hn_q171_ eT)]; exact f174
            have j182 := IsList.setO (e := .inr (9, [.int (nI i), .int (nI j), .int (nI k), .int (nI 0), .int (nI 0), .int (nI 0), .int (nI 0)])) (j175) (w172) (by decide)
            rw [← hσ178] at j182
            have f183 : σ178 (L 2) = some (.inr (2, [.int mcP, .ref (L 4), .int (nI (v 1))])) := by rw [hσ178, sset_ne (sto_ne0 hn_q171_ eP)]; exact f176
            have j184 := IsList.setO (e := .inr (9, [.int (nI i), .int (nI j), .int (nI k), .int (nI 0), .int (nI 0), .int (nI 0), .int (nI 0)])) (j177) (w172) (by decide)
            rw [← hσ178] at j184
            refine s_callF (As := [.ref q171_]) (rest := []) (C := RJ2) (T := TJ2) (N := 3) (n := 1) F hW (k_J2_add g l σ178 (L 2) (L 4) (v 1) (fun t => L (100 + t)) q171_ 9 _ _ (j184) (w179) (by decide) rfl q2846 (by rw [hσ178, hσ172, sset_sset]; exact hWk.elmP.new hn_q171_) (by omega)) (f183) rfl (List.mem_of_getElem? (i := 2) rfl) q964 q967 q969 q72 q971 (by decide +kernel) rfl ⟨⟨Nat.le_of_ble_eq_true rfl, Nat.le_of_ble_eq_true rfl⟩, ⟨(Nat.le_of_ble_eq_true rfl), (Nat.le_of_ble_eq_true rfl)⟩⟩ (Nat.le_of_ble_eq_true rfl) hl.1 rfl dX2_addPipe_86 cX_no (fun r185 σ185 H locs hp185 hW => ?_)
            obtain ⟨rfl, hadd⟩ := hp185
            refine W.eq (g2 := F0 m_ 91 ls (.int (nI 1) :: [])) rfl ?_
            rw [hσ178, hσ172, sset_sset] at hadd
            have hDid := addP hWk hI.1 (of_decide_eq_true hd69) hn_q171_ hb_q171_ hadd (fun a ha => (hW.1.2.2.2 a ha).trans (hW00.1.2.2.2 a ha).symm) (F.cs.2.2.2.2.2.2.2.2 _ (by rw [F.cs.2.1]; simp))
            obtain ⟨L9, hW9, hL0, -, -⟩ := id hDid
            generalize hv9 : va_up (upP v (v 1) i j k 0 0 0 0) 1 (v 1 + 1) = v9 at hW9
            have hv90 : v9 1 = v 1 + 1 := by rw [← hv9, va_up_self]
            have hT9 := hW9.2.2.1
            have hP9 := hW9.2.2.2.1
            obtain ⟨mcT9, nT9, fT9, eT9, bT9, -⟩ := id hT9
            obtain ⟨mcP9, nP9, fP9, eP9, bP9, -⟩ := id hP9
            refine lv_pop F.x F.cd dX2_addPipe_91 rfl ?_
            refine lv_aload_n F.x F.cd dX2_addPipe_92 rfl (lv_at hl 0 rfl) ?_
            refine s_get F hW (ci := 1) (C := RX2) (T := TX2) (N := 6) (v := .ref (L9 2)) ((by rw [← hL0]; exact hW9.1)) rfl in_X2 1 (by decide) q162 (fun _ h9 => h9) rfl dX2_addPipe_93 ?_
            refine s_callF (As := []) (rest := []) (C := RJ2) (T := TJ2) (N := 3) (n := 0) F hW (k_J2_size g l σ185 _ _ _ _ hP9) (eP9) rfl (List.mem_of_getElem? (i := 0) rfl) q317 q272 q274 q72 q276 (by decide +kernel) rfl ⟨⟨Nat.le_of_ble_eq_true rfl, Nat.le_of_ble_eq_true rfl⟩, ⟨(Nat.le_of_ble_eq_true rfl), (Nat.le_of_ble_eq_true rfl)⟩⟩ (Nat.le_of_ble_eq_true rfl) hl.1 rfl dX2_addPipe_96 cX_no (fun r186 σ186 H locs hp186 hW => ?_)
            obtain ⟨rfl, hs186⟩ := hp186
            rw [hs186] at hW
            refine W.eq (g2 := F0 m_ 101 ls (.int (nI (v9 1)) :: [])) rfl ?_
            refine lv_iconst (v := (nI 1)) F.x F.cd dX2_addPipe_101 (by decide) ?_
            refine a_isub (v := (nI (v 1))) F (by rw [hv90]; exact pk_sub (by omega)) dX2_addPipe_102 ?_
            subst hQ
            exact s_reti (v := (nI (v 1))) F hW rfl (⟨_, _, by rw [pipeR, if_pos hd23, if_pos hd45, if_pos (of_decide_eq_true hd69), cl_nI (by omega), cl_nI (by omega), cl_nI (by omega)], rfl, hDid⟩) ⟨(Nat.le_of_ble_eq_true rfl), (Nat.le_of_ble_eq_true rfl)⟩ dX2_addPipe_103
        · refine lv_iconst (v := (nI 1)) F.x F.cd dX2_addPipe_38 (by decide) ?_
          refine lv_goto (tgt := 43) F.x F.cd dX2_addPipe_39 (by decide) ?_
          refine W.eq (g2 := F0 m_ 43 ls (.int (bI (decide (x ≠ y) && btw s (nI 0) (nI 255))) :: [])) (by rw [show (decide (x ≠ y) && btw s (nI 0) (nI 255)) = true by simp [c_28, c_35]]; rfl) ?_
          refine s_ldcS F q1209 dX2_addPipe_43 ?_
          refine s_callSN (As := [.int (bI (decide (x ≠ y) && btw s (nI 0) (nI 255))), .ref (gS g "FilterWaterworks$Works" 64)]) (rest := []) (n := 2) F hW (k_X1_demand g l σ (decide (x ≠ y) && btw s (nI 0) (nI 255)) (gS g "FilterWaterworks$Works" 64) "argument" ⟨"FilterWaterworks$Works", 64, q1209, rfl⟩) q1210 q1211 q68 q1212 (by decide +kernel) rfl ⟨⟨Nat.le_of_ble_eq_true rfl, Nat.le_of_ble_eq_true rfl⟩, ⟨(Nat.le_of_ble_eq_true rfl), (Nat.le_of_ble_eq_true rfl)⟩⟩ (Nat.le_of_ble_eq_true rfl) hl.1 rfl dX2_addPipe_45 (by subst hQ; exact cX_out F ⟨(Nat.le_of_ble_eq_true rfl), (Nat.le_of_ble_eq_true rfl)⟩ (fun q9 E9 σ9 hp9 => ⟨"argument", by rw [pipeR, if_pos hd23, if_neg (by rw [hp9.1]; decide)], hp9.2⟩)) (fun r187 σ187 H locs hp187 hW => ?_)
          obtain ⟨rfl, hs187, hd45⟩ := hp187
          rw [hs187] at hW
          refine W.eq (g2 := F0 m_ 48 ls ([])) rfl ?_
          refine lv_aload_n F.x F.cd dX2_addPipe_48 rfl (lv_at hl 0 rfl) ?_
          refine s_get F hW (ci := 1) (C := RX2) (T := TX2) (N := 6) (v := .ref (L 2)) (hWk.1) rfl in_X2 1 (by decide) q162 (fun _ h9 => h9) rfl dX2_addPipe_49 ?_
          refine s_callF (As := []) (rest := []) (C := RJ2) (T := TJ2) (N := 3) (n := 0) F hW (k_J2_size g l σ _ _ _ _ hP) (eP) rfl (List.mem_of_getElem? (i := 0) rfl) q317 q272 q274 q72 q276 (by decide +kernel) rfl ⟨⟨Nat.le_of_ble_eq_true rfl, Nat.le_of_ble_eq_true rfl⟩, ⟨(Nat.le_of_ble_eq_true rfl), (Nat.le_of_ble_eq_true rfl)⟩⟩ (Nat.le_of_ble_eq_true rfl) hl.1 rfl dX2_addPipe_52 cX_no (fun r188 σ188 H locs hp188 hW => ?_)
          obtain ⟨rfl, hs188⟩ := hp188
          rw [hs188] at hW
          refine W.eq (g2 := F0 m_ 57 ls (.int (nI (v 1)) :: [])) rfl ?_
          refine lv_bipush (v := (nI 12)) F.x F.cd dX2_addPipe_57 (by decide) ?_
          refine n_icmp_ge (a := v 1) (b := 12) (tgt := 66) F (by omega) (by omega) dX2_addPipe_59 (by decide) (fun c_59 => ?_) (fun c_59 => ?_)
          · refine lv_iconst (v := (nI 0)) F.x F.cd dX2_addPipe_66 (by decide) ?_
            refine W.eq (g2 := F0 m_ 67 ls (.int (bI (decide (v 1 < 12))) :: [])) (by rw [show decide (v 1 < 12) = false by simp; omega]; rfl) ?_
            refine s_ldcS F q1239 dX2_addPipe_67 ?_
            refine s_callSN (As := [.int (bI (decide (v 1 < 12))), .ref (gS g "FilterWaterworks$Works" 70)]) (rest := []) (n := 2) F hW (k_X1_demand g l σ (decide (v 1 < 12)) (gS g "FilterWaterworks$Works" 70) "state" ⟨"FilterWaterworks$Works", 70, q1239, rfl⟩) q1210 q1211 q68 q1212 (by decide +kernel) rfl ⟨⟨Nat.le_of_ble_eq_true rfl, Nat.le_of_ble_eq_true rfl⟩, ⟨(Nat.le_of_ble_eq_true rfl), (Nat.le_of_ble_eq_true rfl)⟩⟩ (Nat.le_of_ble_eq_true rfl) hl.1 rfl dX2_addPipe_69 (by subst hQ; exact cX_out F ⟨(Nat.le_of_ble_eq_true rfl), (Nat.le_of_ble_eq_true rfl)⟩ (fun q9 E9 σ9 hp9 => ⟨"state", by rw [pipeR, if_pos hd23, if_pos hd45, if_neg (of_decide_eq_false hp9.1)], hp9.2⟩)) (fun r189 σ189 H locs hp189 hW => ?_)
            obtain ⟨rfl, hs189, hd69⟩ := hp189
            rw [hs189] at hW
            refine W.eq (g2 := F0 m_ 72 ls ([])) rfl ?_
            have h1a := (Bool.and_eq_true _ _ ▸ hd23 : _ ∧ _)
            have h2a := (Bool.and_eq_true _ _ ▸ hd45 : _ ∧ _)
            obtain ⟨i, hi, rfl⟩ := (inN_iff (show v 0 < 2 ^ 30 by omega)).mp h1a.1
            obtain ⟨j, hj, rfl⟩ := (inN_iff (show v 0 < 2 ^ 30 by omega)).mp h1a.2
            obtain ⟨k, hk1, hk2, rfl⟩ := (btw_iff (by decide) (by decide)).mp h2a.2
            refine lv_aload_n F.x F.cd dX2_addPipe_72 rfl (lv_at hl 0 rfl) ?_
            refine s_get F hW (ci := 1) (C := RX2) (T := TX2) (N := 6) (v := .ref (L 2)) (hWk.1) rfl in_X2 1 (by decide) q162 (fun _ h9 => h9) rfl dX2_addPipe_73 ?_
            refine s_new F hW 9 (C := RX5) (T := TX5) (N := 7) (fs := [.int (nI 0), .int (nI 0), .int (nI 0), .int (nI 0), .int (nI 0), .int (nI 0), .int (nI 0)]) rfl in_X5 tyX5_ok q694 q1062 q96 (fun j hj => by rcases (show j = 0 ∨ j = 1 ∨ j = 2 ∨ j = 3 ∨ j = 4 ∨ j = 5 ∨ j = 6 by omega) with rfl | rfl | rfl | rfl | rfl | rfl | rfl <;> rfl) (Nat.le_of_ble_eq_true rfl) (Nat.le_of_ble_eq_true rfl) dX2_addPipe_76 (fun q190_ H hb_q190_ hn_q190_ hW => ?_)
            obtain ⟨σ191, hσ191⟩ : ∃ z, z = sset σ q190_ (.inr (9, [.int (nI 0), .int (nI 0), .int (nI 0), .int (nI 0), .int (nI 0), .int (nI 0), .int (nI 0)])) := ⟨_, rfl⟩
            have hW : Hl g σ191 H locs := by rw [hσ191]; exact hW
            have w191 : σ191 q190_ = some (.inr (9, [.int (nI 0), .int (nI 0), .int (nI 0), .int (nI 0), .int (nI 0), .int (nI 0), .int (nI 0)])) := by rw [hσ191]; exact sset_eq
            have f192 : σ191 (L 0) = some (.inr (1, [.ref (L 1), .ref (L 2), .int (nI (v 2)), .int (nI (v 3)), .int (nI (v 4)), .int (nI (v 5))])) := by rw [hσ191, sset_ne (sto_ne0 hn_q190_ hWk.1)]; exact hWk.1
            have f193 : σ191 (L 1) = some (.inr (2, [.int mcT, .ref (L 3), .int (nI (v 0))])) := by rw [hσ191, sset_ne (sto_ne0 hn_q190_ eT)]; exact eT
            have j194 := IsList.new (e := .inr (9, [.int (nI 0), .int (nI 0), .int (nI 0), .int (nI 0), .int (nI 0), .int (nI 0), .int (nI 0)])) (hT) (hn_q190_)
            rw [← hσ191] at j194
            have f195 : σ191 (L 2) = some (.inr (2, [.int mcP, .ref (L 4), .int (nI (v 1))])) := by rw [hσ191, sset_ne (sto_ne0 hn_q190_ eP)]; exact eP
            have j196 := IsList.new (e := .inr (9, [.int (nI 0), .int (nI 0), .int (nI 0), .int (nI 0), .int (nI 0), .int (nI 0), .int (nI 0)])) (hP) (hn_q190_)
            rw [← hσ191] at j196
            refine lv_dup F.x F.cd dX2_addPipe_79 rfl ?_
            refine lv_iload_n F.x F.cd dX2_addPipe_80 rfl (lv_at hl 1 rfl) ?_
            refine lv_iload_n F.x F.cd dX2_addPipe_81 rfl (lv_at hl 2 rfl) ?_
            refine lv_iload_n F.x F.cd dX2_addPipe_82 rfl (lv_at hl 3 rfl) ?_
            refine s_callI (As := [.int (nI i), .int (nI j), .int (nI k)]) (rest := [.ref q190_, .ref (L 2)]) (n := 3) F hW (k_X5_init g l σ191 q190_ i j k (w191) (hb_q190_)) q1256 q1064 q96 q1065 rfl (by decide +kernel) rfl ⟨⟨Nat.le_of_ble_eq_true rfl, Nat.le_of_ble_eq_true rfl⟩, ⟨(Nat.le_of_ble_eq_true rfl), (Nat.le_of_ble_eq_true rfl)⟩⟩ (Nat.le_of_ble_eq_true rfl) hl.1 rfl dX2_addPipe_83 cX_no (fun r197 σ197 H locs hp197 hW => ?_)
            obtain ⟨rfl, rfl⟩ := hp197
            refine W.eq (g2 := F0 m_ 86 ls (.ref q190_ :: .ref (L 2) :: [])) rfl ?_
            obtain ⟨σ197, hσ197⟩ : ∃ z, z = sset σ191 q190_ (oPipe i j k 0 0 0 0) := ⟨_, rfl⟩
            rw [← hσ197] at hW
            have w198 : σ197 q190_ = some (.inr (9, [.int (nI i), .int (nI j), .int (nI k), .int (nI 0), .int (nI 0), .int (nI 0), .int (nI 0)])) := by rw [hσ197]; exact sset_eq
            have f199 : σ197 (L 0) = some (.inr (1, [.ref (L 1), .ref (L 2), .int (nI (v 2)), .int (nI (v 3)), .int (nI (v 4)), .int (nI (v 5))])) := by rw [hσ197, sset_ne (sto_ne0 hn_q190_ hWk.1)]; exact f192
            have f200 : σ197 (L 1) = some (.inr (2, [.int mcT, .ref (L 3), .int (nI (v 0))])) := by rw [hσ197, sset_ne (sto_ne0 hn_q190_ eT)]; exact f193
            have j201 := IsList.setO (e := .inr (9, [.int (nI i), .int (nI j), .int (nI k), .int (nI 0), .int (nI 0), .int (nI 0), .int (nI 0)])) (j194) (w191) (by decide)
            rw [← hσ197] at j201
            have f202 : σ197 (L 2) = some (.inr (2, [.int mcP, .ref (L 4), .int (nI (v 1))])) := by rw [hσ197, sset_ne (sto_ne0 hn_q190_ eP)]; exact f195
            have j203 := IsList.setO (e := .inr (9, [.int (nI i), .int (nI j), .int (nI k), .int (nI 0), .int (nI 0), .int (nI 0), .int (nI 0)])) (j196) (w191) (by decide)
            rw [← hσ197] at j203
            refine s_callF (As := [.ref q190_]) (rest := []) (C := RJ2) (T := TJ2) (N := 3) (n := 1) F hW (k_J2_add g l σ197 (L 2) (L 4) (v 1) (fun t => L (100 + t)) q190_ 9 _ _ (j203) (w198) (by decide) rfl q2846 (by rw [hσ197, hσ191, sset_sset]; exact hWk.elmP.new hn_q190_) (by omega)) (f202) rfl (List.mem_of_getElem? (i := 2) rfl) q964 q967 q969 q72 q971 (by decide +kernel) rfl ⟨⟨Nat.le_of_ble_eq_true rfl, Nat.le_of_ble_eq_true rfl⟩, ⟨(Nat.le_of_ble_eq_true rfl), (Nat.le_of_ble_eq_true rfl)⟩⟩ (Nat.le_of_ble_eq_true rfl) hl.1 rfl dX2_addPipe_86 cX_no (fun r204 σ204 H locs hp204 hW => ?_)
            obtain ⟨rfl, hadd⟩ := hp204
            refine W.eq (g2 := F0 m_ 91 ls (.int (nI 1) :: [])) rfl ?_
            rw [hσ197, hσ191, sset_sset] at hadd
            have hDid := addP hWk hI.1 (of_decide_eq_true hd69) hn_q190_ hb_q190_ hadd (fun a ha => (hW.1.2.2.2 a ha).trans (hW00.1.2.2.2 a ha).symm) (F.cs.2.2.2.2.2.2.2.2 _ (by rw [F.cs.2.1]; simp))
            obtain ⟨L9, hW9, hL0, -, -⟩ := id hDid
            generalize hv9 : va_up (upP v (v 1) i j k 0 0 0 0) 1 (v 1 + 1) = v9 at hW9
            have hv90 : v9 1 = v 1 + 1 := by rw [← hv9, va_up_self]
            have hT9 := hW9.2.2.1
            have hP9 := hW9.2.2.2.1
            obtain ⟨mcT9, nT9, fT9, eT9, bT9, -⟩ := id hT9
            obtain ⟨mcP9, nP9, fP9, eP9, bP9, -⟩ := id hP9
            refine lv_pop F.x F.cd dX2_addPipe_91 rfl ?_
            refine lv_aload_n F.x F.cd dX2_addPipe_92 rfl (lv_at hl 0 rfl) ?_
            refine s_get F hW (ci := 1) (C := RX2) (T := TX2) (N := 6) (v := .ref (L9 2)) ((by rw [← hL0]; exact hW9.1)) rfl in_X2 1 (by decide) q162 (fun _ h9 => h9) rfl dX2_addPipe_93 ?_
            refine s_callF (As := []) (rest := []) (C := RJ2) (T := TJ2) (N := 3) (n := 0) F hW (k_J2_size g l σ204 _ _ _ _ hP9) (eP9) rfl (List.mem_of_getElem? (i := 0) rfl) q317 q272 q274 q72 q276 (by decide +kernel) rfl ⟨⟨Nat.le_of_ble_eq_true rfl, Nat.le_of_ble_eq_true rfl⟩, ⟨(Nat.le_of_ble_eq_true rfl), (Nat.le_of_ble_eq_true rfl)⟩⟩ (Nat.le_of_ble_eq_true rfl) hl.1 rfl dX2_addPipe_96 cX_no (fun r205 σ205 H locs hp205 hW => ?_)
            obtain ⟨rfl, hs205⟩ := hp205
            rw [hs205] at hW
            refine W.eq (g2 := F0 m_ 101 ls (.int (nI (v9 1)) :: [])) rfl ?_
            refine lv_iconst (v := (nI 1)) F.x F.cd dX2_addPipe_101 (by decide) ?_
            refine a_isub (v := (nI (v 1))) F (by rw [hv90]; exact pk_sub (by omega)) dX2_addPipe_102 ?_
            subst hQ
            exact s_reti (v := (nI (v 1))) F hW rfl (⟨_, _, by rw [pipeR, if_pos hd23, if_pos hd45, if_pos (of_decide_eq_true hd69), cl_nI (by omega), cl_nI (by omega), cl_nI (by omega)], rfl, hDid⟩) ⟨(Nat.le_of_ble_eq_true rfl), (Nat.le_of_ble_eq_true rfl)⟩ dX2_addPipe_103
          · refine lv_iconst (v := (nI 1)) F.x F.cd dX2_addPipe_62 (by decide) ?_
            refine lv_goto (tgt := 67) F.x F.cd dX2_addPipe_63 (by decide) ?_
            refine W.eq (g2 := F0 m_ 67 ls (.int (bI (decide (v 1 < 12))) :: [])) (by rw [show decide (v 1 < 12) = true by simp; omega]; rfl) ?_
            refine s_ldcS F q1239 dX2_addPipe_67 ?_
            refine s_callSN (As := [.int (bI (decide (v 1 < 12))), .ref (gS g "FilterWaterworks$Works" 70)]) (rest := []) (n := 2) F hW (k_X1_demand g l σ (decide (v 1 < 12)) (gS g "FilterWaterworks$Works" 70) "state" ⟨"FilterWaterworks$Works", 70, q1239, rfl⟩) q1210 q1211 q68 q1212 (by decide +kernel) rfl ⟨⟨Nat.le_of_ble_eq_true rfl, Nat.le_of_ble_eq_true rfl⟩, ⟨(Nat.le_of_ble_eq_true rfl), (Nat.le_of_ble_eq_true rfl)⟩⟩ (Nat.le_of_ble_eq_true rfl) hl.1 rfl dX2_addPipe_69 (by subst hQ; exact cX_out F ⟨(Nat.le_of_ble_eq_true rfl), (Nat.le_of_ble_eq_true rfl)⟩ (fun q9 E9 σ9 hp9 => ⟨"state", by rw [pipeR, if_pos hd23, if_pos hd45, if_neg (of_decide_eq_false hp9.1)], hp9.2⟩)) (fun r206 σ206 H locs hp206 hW => ?_)
            obtain ⟨rfl, hs206, hd69⟩ := hp206
            rw [hs206] at hW
            refine W.eq (g2 := F0 m_ 72 ls ([])) rfl ?_
            have h1a := (Bool.and_eq_true _ _ ▸ hd23 : _ ∧ _)
            have h2a := (Bool.and_eq_true _ _ ▸ hd45 : _ ∧ _)
            obtain ⟨i, hi, rfl⟩ := (inN_iff (show v 0 < 2 ^ 30 by omega)).mp h1a.1
            obtain ⟨j, hj, rfl⟩ := (inN_iff (show v 0 < 2 ^ 30 by omega)).mp h1a.2
            obtain ⟨k, hk1, hk2, rfl⟩ := (btw_iff (by decide) (by decide)).mp h2a.2
            refine lv_aload_n F.x F.cd dX2_addPipe_72 rfl (lv_at hl 0 rfl) ?_
            refine s_get F hW (ci := 1) (C := RX2) (T := TX2) (N := 6) (v := .ref (L 2)) (hWk.1) rfl in_X2 1 (by decide) q162 (fun _ h9 => h9) rfl dX2_addPipe_73 ?_
            refine s_new F hW 9 (C := RX5) (T := TX5) (N := 7) (fs := [.int (nI 0), .int (nI 0), .int (nI 0), .int (nI 0), .int (nI 0), .int (nI 0), .int (nI 0)]) rfl in_X5 tyX5_ok q694 q1062 q96 (fun j hj => by rcases (show j = 0 ∨ j = 1 ∨ j = 2 ∨ j = 3 ∨ j = 4 ∨ j = 5 ∨ j = 6 by omega) with rfl | rfl | rfl | rfl | rfl | rfl | rfl <;> rfl) (Nat.le_of_ble_eq_true rfl) (Nat.le_of_ble_eq_true rfl) dX2_addPipe_76 (fun q207_ H hb_q207_ hn_q207_ hW => ?_)
            obtain ⟨σ208, hσ208⟩ : ∃ z, z = sset σ q207_ (.inr (9, [.int (nI 0), .int (nI 0), .int (nI 0), .int (nI 0), .int (nI 0), .int (nI 0), .int (nI 0)])) := ⟨_, rfl⟩
            have hW : Hl g σ208 H locs := by rw [hσ208]; exact hW
            have w208 : σ208 q207_ = some (.inr (9, [.int (nI 0), .int (nI 0), .int (nI 0), .int (nI 0), .int (nI 0), .int (nI 0), .int (nI 0)])) := by rw [hσ208]; exact sset_eq
            have f209 : σ208 (L 0) = some (.inr (1, [.ref (L 1), .ref (L 2), .int (nI (v 2)), .int (nI (v 3)), .int (nI (v 4)), .int (nI (v 5))])) := by rw [hσ208, sset_ne (sto_ne0 hn_q207_ hWk.1)]; exact hWk.1
            have f210 : σ208 (L 1) = some (.inr (2, [.int mcT, .ref (L 3), .int (nI (v 0))])) := by rw [hσ208, sset_ne (sto_ne0 hn_q207_ eT)]; exact eT
            have j211 := IsList.new (e := .inr (9, [.int (nI 0), .int (nI 0), .int (nI 0), .int (nI 0), .int (nI 0), .int (nI 0), .int (nI 0)])) (hT) (hn_q207_)
            rw [← hσ208] at j211
            have f212 : σ208 (L 2) = some (.inr (2, [.int mcP, .ref (L 4), .int (nI (v 1))])) := by rw [hσ208, sset_ne (sto_ne0 hn_q207_ eP)]; exact eP
            have j213 := IsList.new (e := .inr (9, [.int (nI 0), .int (nI 0), .int (nI 0), .int (nI 0), .int (nI 0), .int (nI 0), .int (nI 0)])) (hP) (hn_q207_)
            rw [← hσ208] at j213
            refine lv_dup F.x F.cd dX2_addPipe_79 rfl ?_
            refine lv_iload_n F.x F.cd dX2_addPipe_80 rfl (lv_at hl 1 rfl) ?_
            refine lv_iload_n F.x F.cd dX2_addPipe_81 rfl (lv_at hl 2 rfl) ?_
            refine lv_iload_n F.x F.cd dX2_addPipe_82 rfl (lv_at hl 3 rfl) ?_
            refine s_callI (As := [.int (nI i), .int (nI j), .int (nI k)]) (rest := [.ref q207_, .ref (L 2)]) (n := 3) F hW (k_X5_init g l σ208 q207_ i j k (w208) (hb_q207_)) q1256 q1064 q96 q1065 rfl (by decide +kernel) rfl ⟨⟨Nat.le_of_ble_eq_true rfl, Nat.le_of_ble_eq_true rfl⟩, ⟨(Nat.le_of_ble_eq_true rfl), (Nat.le_of_ble_eq_true rfl)⟩⟩ (Nat.le_of_ble_eq_true rfl) hl.1 rfl dX2_addPipe_83 cX_no (fun r214 σ214 H locs hp214 hW => ?_)
            obtain ⟨rfl, rfl⟩ := hp214
            refine W.eq (g2 := F0 m_ 86 ls (.ref q207_ :: .ref (L 2) :: [])) rfl ?_
            obtain ⟨σ214, hσ214⟩ : ∃ z, z = sset σ208 q207_ (oPipe i j k 0 0 0 0) := ⟨_, rfl⟩
            rw [← hσ214] at hW
            have w215 : σ214 q207_ = some (.inr (9, [.int (nI i), .int (nI j), .int (nI k), .int (nI 0), .int (nI 0), .int (nI 0), .int (nI 0)])) := by rw [hσ214]; exact sset_eq
            have f216 : σ214 (L 0) = some (.inr (1, [.ref (L 1), .ref (L 2), .int (nI (v 2)), .int (nI (v 3)), .int (nI (v 4)), .int (nI (v 5))])) := by rw [hσ214, sset_ne (sto_ne0 hn_q207_ hWk.1)]; exact f209
            have f217 : σ214 (L 1) = some (.inr (2, [.int mcT, .ref (L 3), .int (nI (v 0))])) := by rw [hσ214, sset_ne (sto_ne0 hn_q207_ eT)]; exact f210
            have j218 := IsList.setO (e := .inr (9, [.int (nI i), .int (nI j), .int (nI k), .int (nI 0), .int (nI 0), .int (nI 0), .int (nI 0)])) (j211) (w208) (by decide)
            rw [← hσ214] at j218
            have f219 : σ214 (L 2) = some (.inr (2, [.int mcP, .ref (L 4), .int (nI (v 1))])) := by rw [hσ214, sset_ne (sto_ne0 hn_q207_ eP)]; exact f212
            have j220 := IsList.setO (e := .inr (9, [.int (nI i), .int (nI j), .int (nI k), .int (nI 0), .int (nI 0), .int (nI 0), .int (nI 0)])) (j213) (w208) (by decide)
            rw [← hσ214] at j220
            refine s_callF (As := [.ref q207_]) (rest := []) (C := RJ2) (T := TJ2) (N := 3) (n := 1) F hW (k_J2_add g l σ214 (L 2) (L 4) (v 1) (fun t => L (100 + t)) q207_ 9 _ _ (j220) (w215) (by decide) rfl q2846 (by rw [hσ214, hσ208, sset_sset]; exact hWk.elmP.new hn_q207_) (by omega)) (f219) rfl (List.mem_of_getElem? (i := 2) rfl) q964 q967 q969 q72 q971 (by decide +kernel) rfl ⟨⟨Nat.le_of_ble_eq_true rfl, Nat.le_of_ble_eq_true rfl⟩, ⟨(Nat.le_of_ble_eq_true rfl), (Nat.le_of_ble_eq_true rfl)⟩⟩ (Nat.le_of_ble_eq_true rfl) hl.1 rfl dX2_addPipe_86 cX_no (fun r221 σ221 H locs hp221 hW => ?_)
            obtain ⟨rfl, hadd⟩ := hp221
            refine W.eq (g2 := F0 m_ 91 ls (.int (nI 1) :: [])) rfl ?_
            rw [hσ214, hσ208, sset_sset] at hadd
            have hDid := addP hWk hI.1 (of_decide_eq_true hd69) hn_q207_ hb_q207_ hadd (fun a ha => (hW.1.2.2.2 a ha).trans (hW00.1.2.2.2 a ha).symm) (F.cs.2.2.2.2.2.2.2.2 _ (by rw [F.cs.2.1]; simp))
            obtain ⟨L9, hW9, hL0, -, -⟩ := id hDid
            generalize hv9 : va_up (upP v (v 1) i j k 0 0 0 0) 1 (v 1 + 1) = v9 at hW9
            have hv90 : v9 1 = v 1 + 1 := by rw [← hv9, va_up_self]
            have hT9 := hW9.2.2.1
            have hP9 := hW9.2.2.2.1
            obtain ⟨mcT9, nT9, fT9, eT9, bT9, -⟩ := id hT9
            obtain ⟨mcP9, nP9, fP9, eP9, bP9, -⟩ := id hP9
            refine lv_pop F.x F.cd dX2_addPipe_91 rfl ?_
            refine lv_aload_n F.x F.cd dX2_addPipe_92 rfl (lv_at hl 0 rfl) ?_
            refine s_get F hW (ci := 1) (C := RX2) (T := TX2) (N := 6) (v := .ref (L9 2)) ((by rw [← hL0]; exact hW9.1)) rfl in_X2 1 (by decide) q162 (fun _ h9 => h9) rfl dX2_addPipe_93 ?_
            refine s_callF (As := []) (rest := []) (C := RJ2) (T := TJ2) (N := 3) (n := 0) F hW (k_J2_size g l σ221 _ _ _ _ hP9) (eP9) rfl (List.mem_of_getElem? (i := 0) rfl) q317 q272 q274 q72 q276 (by decide +kernel) rfl ⟨⟨Nat.le_of_ble_eq_true rfl, Nat.le_of_ble_eq_true rfl⟩, ⟨(Nat.le_of_ble_eq_true rfl), (Nat.le_of_ble_eq_true rfl)⟩⟩ (Nat.le_of_ble_eq_true rfl) hl.1 rfl dX2_addPipe_96 cX_no (fun r222 σ222 H locs hp222 hW => ?_)
            obtain ⟨rfl, hs222⟩ := hp222
            rw [hs222] at hW
            refine W.eq (g2 := F0 m_ 101 ls (.int (nI (v9 1)) :: [])) rfl ?_
            refine lv_iconst (v := (nI 1)) F.x F.cd dX2_addPipe_101 (by decide) ?_
            refine a_isub (v := (nI (v 1))) F (by rw [hv90]; exact pk_sub (by omega)) dX2_addPipe_102 ?_
            subst hQ
            exact s_reti (v := (nI (v 1))) F hW rfl (⟨_, _, by rw [pipeR, if_pos hd23, if_pos hd45, if_pos (of_decide_eq_true hd69), cl_nI (by omega), cl_nI (by omega), cl_nI (by omega)], rfl, hDid⟩) ⟨(Nat.le_of_ble_eq_true rfl), (Nat.le_of_ble_eq_true rfl)⟩ dX2_addPipe_103
    · refine lv_iconst (v := (nI 1)) F.x F.cd dX2_addPipe_16 (by decide) ?_
      refine lv_goto (tgt := 21) F.x F.cd dX2_addPipe_17 (by decide) ?_
      refine W.eq (g2 := F0 m_ 21 ls (.int (bI (inN x (v 0) && inN y (v 0))) :: [])) (by rw [show (inN x (v 0) && inN y (v 0)) = true by simp [c_5, c_13]]; rfl) ?_
      refine s_ldcS F q1251 dX2_addPipe_21 ?_
      refine s_callSN (As := [.int (bI (inN x (v 0) && inN y (v 0))), .ref (gS g "FilterWaterworks$Works" 79)]) (rest := []) (n := 2) F hW (k_X1_demand g l σ (inN x (v 0) && inN y (v 0)) (gS g "FilterWaterworks$Works" 79) "index" ⟨"FilterWaterworks$Works", 79, q1251, rfl⟩) q1210 q1211 q68 q1212 (by decide +kernel) rfl ⟨⟨Nat.le_of_ble_eq_true rfl, Nat.le_of_ble_eq_true rfl⟩, ⟨(Nat.le_of_ble_eq_true rfl), (Nat.le_of_ble_eq_true rfl)⟩⟩ (Nat.le_of_ble_eq_true rfl) hl.1 rfl dX2_addPipe_23 (by subst hQ; exact cX_out F ⟨(Nat.le_of_ble_eq_true rfl), (Nat.le_of_ble_eq_true rfl)⟩ (fun q9 E9 σ9 hp9 => ⟨"index", by rw [pipeR, if_neg (by rw [hp9.1]; decide)], hp9.2⟩)) (fun r223 σ223 H locs hp223 hW => ?_)
      obtain ⟨rfl, hs223, hd23⟩ := hp223
      rw [hs223] at hW
      refine W.eq (g2 := F0 m_ 26 ls ([])) rfl ?_
      refine lv_iload_n F.x F.cd dX2_addPipe_26 rfl (lv_at hl 1 rfl) ?_
      refine lv_iload_n F.x F.cd dX2_addPipe_27 rfl (lv_at hl 2 rfl) ?_
      refine lv_icmp_eq (x := x) (y := y) (tgt := 42) F.x F.cd dX2_addPipe_28 (by decide) (fun c_28 => ?_) (fun c_28 => ?_)
      · refine lv_iconst (v := (nI 0)) F.x F.cd dX2_addPipe_42 (by decide) ?_
        refine W.eq (g2 := F0 m_ 43 ls (.int (bI (decide (x ≠ y) && btw s (nI 0) (nI 255))) :: [])) (by rw [show (decide (x ≠ y) && btw s (nI 0) (nI 255)) = false by simp [c_28]]; rfl) ?_
        refine s_ldcS F q1209 dX2_addPipe_43 ?_
        refine s_callSN (As := [.int (bI (decide (x ≠ y) && btw s (nI 0) (nI 255))), .ref (gS g "FilterWaterworks$Works" 64)]) (rest := []) (n := 2) F hW (k_X1_demand g l σ (decide (x ≠ y) && btw s (nI 0) (nI 255)) (gS g "FilterWaterworks$Works" 64) "argument" ⟨"FilterWaterworks$Works", 64, q1209, rfl⟩) q1210 q1211 q68 q1212 (by decide +kernel) rfl ⟨⟨Nat.le_of_ble_eq_true rfl, Nat.le_of_ble_eq_true rfl⟩, ⟨(Nat.le_of_ble_eq_true rfl), (Nat.le_of_ble_eq_true rfl)⟩⟩ (Nat.le_of_ble_eq_true rfl) hl.1 rfl dX2_addPipe_45 (by subst hQ; exact cX_out F ⟨(Nat.le_of_ble_eq_true rfl), (Nat.le_of_ble_eq_true rfl)⟩ (fun q9 E9 σ9 hp9 => ⟨"argument", by rw [pipeR, if_pos hd23, if_neg (by rw [hp9.1]; decide)], hp9.2⟩)) (fun r224 σ224 H locs hp224 hW => ?_)
        obtain ⟨rfl, hs224, hd45⟩ := hp224
        rw [hs224] at hW
        refine W.eq (g2 := F0 m_ 48 ls ([])) rfl ?_
        refine lv_aload_n F.x F.cd dX2_addPipe_48 rfl (lv_at hl 0 rfl) ?_
        refine s_get F hW (ci := 1) (C := RX2) (T := TX2) (N := 6) (v := .ref (L 2)) (hWk.1) rfl in_X2 1 (by decide) q162 (fun _ h9 => h9) rfl dX2_addPipe_49 ?_
        refine s_callF (As := []) (rest := []) (C := RJ2) (T := TJ2) (N := 3) (n := 0) F hW (k_J2_size g l σ _ _ _ _ hP) (eP) rfl (List.mem_of_getElem? (i := 0) rfl) q317 q272 q274 q72 q276 (by decide +kernel) rfl ⟨⟨Nat.le_of_ble_eq_true rfl, Nat.le_of_ble_eq_true rfl⟩, ⟨(Nat.le_of_ble_eq_true rfl), (Nat.le_of_ble_eq_true rfl)⟩⟩ (Nat.le_of_ble_eq_true rfl) hl.1 rfl dX2_addPipe_52 cX_no (fun r225 σ225 H locs hp225 hW => ?_)
        obtain ⟨rfl, hs225⟩ := hp225
        rw [hs225] at hW
        refine W.eq (g2 := F0 m_ 57 ls (.int (nI (v 1)) :: [])) rfl ?_
        refine lv_bipush (v := (nI 12)) F.x F.cd dX2_addPipe_57 (by decide) ?_
        refine n_icmp_ge (a := v 1) (b := 12) (tgt := 66) F (by omega) (by omega) dX2_addPipe_59 (by decide) (fun c_59 => ?_) (fun c_59 => ?_)
        · refine lv_iconst (v := (nI 0)) F.x F.cd dX2_addPipe_66 (by decide) ?_
          refine W.eq (g2 := F0 m_ 67 ls (.int (bI (decide (v 1 < 12))) :: [])) (by rw [show decide (v 1 < 12) = false by simp; omega]; rfl) ?_
          refine s_ldcS F q1239 dX2_addPipe_67 ?_
          refine s_callSN (As := [.int (bI (decide (v 1 < 12))), .ref (gS g "FilterWaterworks$Works" 70)]) (rest := []) (n := 2) F hW (k_X1_demand g l σ (decide (v 1 < 12)) (gS g "FilterWaterworks$Works" 70) "state" ⟨"FilterWaterworks$Works", 70, q1239, rfl⟩) q1210 q1211 q68 q1212 (by decide +kernel) rfl ⟨⟨Nat.le_of_ble_eq_true rfl, Nat.le_of_ble_eq_true rfl⟩, ⟨(Nat.le_of_ble_eq_true rfl), (Nat.le_of_ble_eq_true rfl)⟩⟩ (Nat.le_of_ble_eq_true rfl) hl.1 rfl dX2_addPipe_69 (by subst hQ; exact cX_out F ⟨(Nat.le_of_ble_eq_true rfl), (Nat.le_of_ble_eq_true rfl)⟩ (fun q9 E9 σ9 hp9 => ⟨"state", by rw [pipeR, if_pos hd23, if_pos hd45, if_neg (of_decide_eq_false hp9.1)], hp9.2⟩)) (fun r226 σ226 H locs hp226 hW => ?_)
          obtain ⟨rfl, hs226, hd69⟩ := hp226
          rw [hs226] at hW
          refine W.eq (g2 := F0 m_ 72 ls ([])) rfl ?_
          have h1a := (Bool.and_eq_true _ _ ▸ hd23 : _ ∧ _)
          have h2a := (Bool.and_eq_true _ _ ▸ hd45 : _ ∧ _)
          obtain ⟨i, hi, rfl⟩ := (inN_iff (show v 0 < 2 ^ 30 by omega)).mp h1a.1
          obtain ⟨j, hj, rfl⟩ := (inN_iff (show v 0 < 2 ^ 30 by omega)).mp h1a.2
          obtain ⟨k, hk1, hk2, rfl⟩ := (btw_iff (by decide) (by decide)).mp h2a.2
          refine lv_aload_n F.x F.cd dX2_addPipe_72 rfl (lv_at hl 0 rfl) ?_
          refine s_get F hW (ci := 1) (C := RX2) (T := TX2) (N := 6) (v := .ref (L 2)) (hWk.1) rfl in_X2 1 (by decide) q162 (fun _ h9 => h9) rfl dX2_addPipe_73 ?_
          refine s_new F hW 9 (C := RX5) (T := TX5) (N := 7) (fs := [.int (nI 0), .int (nI 0), .int (nI 0), .int (nI 0), .int (nI 0), .int (nI 0), .int (nI 0)]) rfl in_X5 tyX5_ok q694 q1062 q96 (fun j hj => by rcases (show j = 0 ∨ j = 1 ∨ j = 2 ∨ j = 3 ∨ j = 4 ∨ j = 5 ∨ j = 6 by omega) with rfl | rfl | rfl | rfl | rfl | rfl | rfl <;> rfl) (Nat.le_of_ble_eq_true rfl) (Nat.le_of_ble_eq_true rfl) dX2_addPipe_76 (fun q227_ H hb_q227_ hn_q227_ hW => ?_)
          obtain ⟨σ228, hσ228⟩ : ∃ z, z = sset σ q227_ (.inr (9, [.int (nI 0), .int (nI 0), .int (nI 0), .int (nI 0), .int (nI 0), .int (nI 0), .int (nI 0)])) := ⟨_, rfl⟩
          have hW : Hl g σ228 H locs := by rw [hσ228]; exact hW
          have w228 : σ228 q227_ = some (.inr (9, [.int (nI 0), .int (nI 0), .int (nI 0), .int (nI 0), .int (nI 0), .int (nI 0), .int (nI 0)])) := by rw [hσ228]; exact sset_eq
          have f229 : σ228 (L 0) = some (.inr (1, [.ref (L 1), .ref (L 2), .int (nI (v 2)), .int (nI (v 3)), .int (nI (v 4)), .int (nI (v 5))])) := by rw [hσ228, sset_ne (sto_ne0 hn_q227_ hWk.1)]; exact hWk.1
          have f230 : σ228 (L 1) = some (.inr (2, [.int mcT, .ref (L 3), .int (nI (v 0))])) := by rw [hσ228, sset_ne (sto_ne0 hn_q227_ eT)]; exact eT
          have j231 := IsList.new (e := .inr (9, [.int (nI 0), .int (nI 0), .int (nI 0), .int (nI 0), .int (nI 0), .int (nI 0), .int (nI 0)])) (hT) (hn_q227_)
          rw [← hσ228] at j231
          have f232 : σ228 (L 2) = some (.inr (2, [.int mcP, .ref (L 4), .int (nI (v 1))])) := by rw [hσ228, sset_ne (sto_ne0 hn_q227_ eP)]; exact eP
          have j233 := IsList.new (e := .inr (9, [.int (nI 0), .int (nI 0), .int (nI 0), .int (nI 0), .int (nI 0), .int (nI 0), .int (nI 0)])) (hP) (hn_q227_)
          rw [← hσ228] at j233
          refine lv_dup F.x F.cd dX2_addPipe_79 rfl ?_
          refine lv_iload_n F.x F.cd dX2_addPipe_80 rfl (lv_at hl 1 rfl) ?_
          refine lv_iload_n F.x F.cd dX2_addPipe_81 rfl (lv_at hl 2 rfl) ?_
          refine lv_iload_n F.x F.cd dX2_addPipe_82 rfl (lv_at hl 3 rfl) ?_
          refine s_callI (As := [.int (nI i), .int (nI j), .int (nI k)]) (rest := [.ref q227_, .ref (L 2)]) (n := 3) F hW (k_X5_init g l σ228 q227_ i j k (w228) (hb_q227_)) q1256 q1064 q96 q1065 rfl (by decide +kernel) rfl ⟨⟨Nat.le_of_ble_eq_true rfl, Nat.le_of_ble_eq_true rfl⟩, ⟨(Nat.le_of_ble_eq_true rfl), (Nat.le_of_ble_eq_true rfl)⟩⟩ (Nat.le_of_ble_eq_true rfl) hl.1 rfl dX2_addPipe_83 cX_no (fun r234 σ234 H locs hp234 hW => ?_)
          obtain ⟨rfl, rfl⟩ := hp234
          refine W.eq (g2 := F0 m_ 86 ls (.ref q227_ :: .ref (L 2) :: [])) rfl ?_
          obtain ⟨σ234, hσ234⟩ : ∃ z, z = sset σ228 q227_ (oPipe i j k 0 0 0 0) := ⟨_, rfl⟩
          rw [← hσ234] at hW
          have w235 : σ234 q227_ = some (.inr (9, [.int (nI i), .int (nI j), .int (nI k), .int (nI 0), .int (nI 0), .int (nI 0), .int (nI 0)])) := by rw [hσ234]; exact sset_eq
          have f236 : σ234 (L 0) = some (.inr (1, [.ref (L 1), .ref (L 2), .int (nI (v 2)), .int (nI (v 3)), .int (nI (v 4)), .int (nI (v 5))])) := by rw [hσ234, sset_ne (sto_ne0 hn_q227_ hWk.1)]; exact f229
          have f237 : σ234 (L 1) = some (.inr (2, [.int mcT, .ref (L 3), .int (nI (v 0))])) := by rw [hσ234, sset_ne (sto_ne0 hn_q227_ eT)]; exact f230
          have j238 := IsList.setO (e := .inr (9, [.int (nI i), .int (nI j), .int (nI k), .int (nI 0), .int (nI 0), .int (nI 0), .int (nI 0)])) (j231) (w228) (by decide)
          rw [← hσ234] at j238
          have f239 : σ234 (L 2) = some (.inr (2, [.int mcP, .ref (L 4), .int (nI (v 1))])) := by rw [hσ234, sset_ne (sto_ne0 hn_q227_ eP)]; exact f232
          have j240 := IsList.setO (e := .inr (9, [.int (nI i), .int (nI j), .int (nI k), .int (nI 0), .int (nI 0), .int (nI 0), .int (nI 0)])) (j233) (w228) (by decide)
          rw [← hσ234] at j240
          refine s_callF (As := [.ref q227_]) (rest := []) (C := RJ2) (T := TJ2) (N := 3) (n := 1) F hW (k_J2_add g l σ234 (L 2) (L 4) (v 1) (fun t => L (100 + t)) q227_ 9 _ _ (j240) (w235) (by decide) rfl q2846 (by rw [hσ234, hσ228, sset_sset]; exact hWk.elmP.new hn_q227_) (by omega)) (f239) rfl (List.mem_of_getElem? (i := 2) rfl) q964 q967 q969 q72 q971 (by decide +kernel) rfl ⟨⟨Nat.le_of_ble_eq_true rfl, Nat.le_of_ble_eq_true rfl⟩, ⟨(Nat.le_of_ble_eq_true rfl), (Nat.le_of_ble_eq_true rfl)⟩⟩ (Nat.le_of_ble_eq_true rfl) hl.1 rfl dX2_addPipe_86 cX_no (fun r241 σ241 H locs hp241 hW => ?_)
          obtain ⟨rfl, hadd⟩ := hp241
          refine W.eq (g2 := F0 m_ 91 ls (.int (nI 1) :: [])) rfl ?_
          rw [hσ234, hσ228, sset_sset] at hadd
          have hDid := addP hWk hI.1 (of_decide_eq_true hd69) hn_q227_ hb_q227_ hadd (fun a ha => (hW.1.2.2.2 a ha).trans (hW00.1.2.2.2 a ha).symm) (F.cs.2.2.2.2.2.2.2.2 _ (by rw [F.cs.2.1]; simp))
          obtain ⟨L9, hW9, hL0, -, -⟩ := id hDid
          generalize hv9 : va_up (upP v (v 1) i j k 0 0 0 0) 1 (v 1 + 1) = v9 at hW9
          have hv90 : v9 1 = v 1 + 1 := by rw [← hv9, va_up_self]
          have hT9 := hW9.2.2.1
          have hP9 := hW9.2.2.2.1
          obtain ⟨mcT9, nT9, fT9, eT9, bT9, -⟩ := id hT9
          obtain ⟨mcP9, nP9, fP9, eP9, bP9, -⟩ := id hP9
          refine lv_pop F.x F.cd dX2_addPipe_91 rfl ?_
          refine lv_aload_n F.x F.cd dX2_addPipe_92 rfl (lv_at hl 0 rfl) ?_
          refine s_get F hW (ci := 1) (C := RX2) (T := TX2) (N := 6) (v := .ref (L9 2)) ((by rw [← hL0]; exact hW9.1)) rfl in_X2 1 (by decide) q162 (fun _ h9 => h9) rfl dX2_addPipe_93 ?_
          refine s_callF (As := []) (rest := []) (C := RJ2) (T := TJ2) (N := 3) (n := 0) F hW (k_J2_size g l σ241 _ _ _ _ hP9) (eP9) rfl (List.mem_of_getElem? (i := 0) rfl) q317 q272 q274 q72 q276 (by decide +kernel) rfl ⟨⟨Nat.le_of_ble_eq_true rfl, Nat.le_of_ble_eq_true rfl⟩, ⟨(Nat.le_of_ble_eq_true rfl), (Nat.le_of_ble_eq_true rfl)⟩⟩ (Nat.le_of_ble_eq_true rfl) hl.1 rfl dX2_addPipe_96 cX_no (fun r242 σ242 H locs hp242 hW => ?_)
          obtain ⟨rfl, hs242⟩ := hp242
          rw [hs242] at hW
          refine W.eq (g2 := F0 m_ 101 ls (.int (nI (v9 1)) :: [])) rfl ?_
          refine lv_iconst (v := (nI 1)) F.x F.cd dX2_addPipe_101 (by decide) ?_
          refine a_isub (v := (nI (v 1))) F (by rw [hv90]; exact pk_sub (by omega)) dX2_addPipe_102 ?_
          subst hQ
          exact s_reti (v := (nI (v 1))) F hW rfl (⟨_, _, by rw [pipeR, if_pos hd23, if_pos hd45, if_pos (of_decide_eq_true hd69), cl_nI (by omega), cl_nI (by omega), cl_nI (by omega)], rfl, hDid⟩) ⟨(Nat.le_of_ble_eq_true rfl), (Nat.le_of_ble_eq_true rfl)⟩ dX2_addPipe_103
        · refine lv_iconst (v := (nI 1)) F.x F.cd dX2_addPipe_62 (by decide) ?_
          refine lv_goto (tgt := 67) F.x F.cd dX2_addPipe_63 (by decide) ?_
          refine W.eq (g2 := F0 m_ 67 ls (.int (bI (decide (v 1 < 12))) :: [])) (by rw [show decide (v 1 < 12) = true by simp; omega]; rfl) ?_
          refine s_ldcS F q1239 dX2_addPipe_67 ?_
          refine s_callSN (As := [.int (bI (decide (v 1 < 12))), .ref (gS g "FilterWaterworks$Works" 70)]) (rest := []) (n := 2) F hW (k_X1_demand g l σ (decide (v 1 < 12)) (gS g "FilterWaterworks$Works" 70) "state" ⟨"FilterWaterworks$Works", 70, q1239, rfl⟩) q1210 q1211 q68 q1212 (by decide +kernel) rfl ⟨⟨Nat.le_of_ble_eq_true rfl, Nat.le_of_ble_eq_true rfl⟩, ⟨(Nat.le_of_ble_eq_true rfl), (Nat.le_of_ble_eq_true rfl)⟩⟩ (Nat.le_of_ble_eq_true rfl) hl.1 rfl dX2_addPipe_69 (by subst hQ; exact cX_out F ⟨(Nat.le_of_ble_eq_true rfl), (Nat.le_of_ble_eq_true rfl)⟩ (fun q9 E9 σ9 hp9 => ⟨"state", by rw [pipeR, if_pos hd23, if_pos hd45, if_neg (of_decide_eq_false hp9.1)], hp9.2⟩)) (fun r243 σ243 H locs hp243 hW => ?_)
          obtain ⟨rfl, hs243, hd69⟩ := hp243
          rw [hs243] at hW
          refine W.eq (g2 := F0 m_ 72 ls ([])) rfl ?_
          have h1a := (Bool.and_eq_true _ _ ▸ hd23 : _ ∧ _)
          have h2a := (Bool.and_eq_true _ _ ▸ hd45 : _ ∧ _)
          obtain ⟨i, hi, rfl⟩ := (inN_iff (show v 0 < 2 ^ 30 by omega)).mp h1a.1
          obtain ⟨j, hj, rfl⟩ := (inN_iff (show v 0 < 2 ^ 30 by omega)).mp h1a.2
          obtain ⟨k, hk1, hk2, rfl⟩ := (btw_iff (by decide) (by decide)).mp h2a.2
          refine lv_aload_n F.x F.cd dX2_addPipe_72 rfl (lv_at hl 0 rfl) ?_
          refine s_get F hW (ci := 1) (C := RX2) (T := TX2) (N := 6) (v := .ref (L 2)) (hWk.1) rfl in_X2 1 (by decide) q162 (fun _ h9 => h9) rfl dX2_addPipe_73 ?_
          refine s_new F hW 9 (C := RX5) (T := TX5) (N := 7) (fs := [.int (nI 0), .int (nI 0), .int (nI 0), .int (nI 0), .int (nI 0), .int (nI 0), .int (nI 0)]) rfl in_X5 tyX5_ok q694 q1062 q96 (fun j hj => by rcases (show j = 0 ∨ j = 1 ∨ j = 2 ∨ j = 3 ∨ j = 4 ∨ j = 5 ∨ j = 6 by omega) with rfl | rfl | rfl | rfl | rfl | rfl | rfl <;> rfl) (Nat.le_of_ble_eq_true rfl) (Nat.le_of_ble_eq_true rfl) dX2_addPipe_76 (fun q244_ H hb_q244_ hn_q244_ hW => ?_)
          obtain ⟨σ245, hσ245⟩ : ∃ z, z = sset σ q244_ (.inr (9, [.int (nI 0), .int (nI 0), .int (nI 0), .int (nI 0), .int (nI 0), .int (nI 0), .int (nI 0)])) := ⟨_, rfl⟩
          have hW : Hl g σ245 H locs := by rw [hσ245]; exact hW
          have w245 : σ245 q244_ = some (.inr (9, [.int (nI 0), .int (nI 0), .int (nI 0), .int (nI 0), .int (nI 0), .int (nI 0), .int (nI 0)])) := by rw [hσ245]; exact sset_eq
          have f246 : σ245 (L 0) = some (.inr (1, [.ref (L 1), .ref (L 2), .int (nI (v 2)), .int (nI (v 3)), .int (nI (v 4)), .int (nI (v 5))])) := by rw [hσ245, sset_ne (sto_ne0 hn_q244_ hWk.1)]; exact hWk.1
          have f247 : σ245 (L 1) = some (.inr (2, [.int mcT, .ref (L 3), .int (nI (v 0))])) := by rw [hσ245, sset_ne (sto_ne0 hn_q244_ eT)]; exact eT
          have j248 := IsList.new (e := .inr (9, [.int (nI 0), .int (nI 0), .int (nI 0), .int (nI 0), .int (nI 0), .int (nI 0), .int (nI 0)])) (hT) (hn_q244_)
          rw [← hσ245] at j248
          have f249 : σ245 (L 2) = some (.inr (2, [.int mcP, .ref (L 4), .int (nI (v 1))])) := by rw [hσ245, sset_ne (sto_ne0 hn_q244_ eP)]; exact eP
          have j250 := IsList.new (e := .inr (9, [.int (nI 0), .int (nI 0), .int (nI 0), .int (nI 0), .int (nI 0), .int (nI 0), .int (nI 0)])) (hP) (hn_q244_)
          rw [← hσ245] at j250
          refine lv_dup F.x F.cd dX2_addPipe_79 rfl ?_
          refine lv_iload_n F.x F.cd dX2_addPipe_80 rfl (lv_at hl 1 rfl) ?_
          refine lv_iload_n F.x F.cd dX2_addPipe_81 rfl (lv_at hl 2 rfl) ?_
          refine lv_iload_n F.x F.cd dX2_addPipe_82 rfl (lv_at hl 3 rfl) ?_
          refine s_callI (As := [.int (nI i), .int (nI j), .int (nI k)]) (rest := [.ref q244_, .ref (L 2)]) (n := 3) F hW (k_X5_init g l σ245 q244_ i j k (w245) (hb_q244_)) q1256 q1064 q96 q1065 rfl (by decide +kernel) rfl ⟨⟨Nat.le_of_ble_eq_true rfl, Nat.le_of_ble_eq_true rfl⟩, ⟨(Nat.le_of_ble_eq_true rfl), (Nat.le_of_ble_eq_true rfl)⟩⟩ (Nat.le_of_ble_eq_true rfl) hl.1 rfl dX2_addPipe_83 cX_no (fun r251 σ251 H locs hp251 hW => ?_)
          obtain ⟨rfl, rfl⟩ := hp251
          refine W.eq (g2 := F0 m_ 86 ls (.ref q244_ :: .ref (L 2) :: [])) rfl ?_
          obtain ⟨σ251, hσ251⟩ : ∃ z, z = sset σ245 q244_ (oPipe i j k 0 0 0 0) := ⟨_, rfl⟩
          rw [← hσ251] at hW
          have w252 : σ251 q244_ = some (.inr (9, [.int (nI i), .int (nI j), .int (nI k), .int (nI 0), .int (nI 0), .int (nI 0), .int (nI 0)])) := by rw [hσ251]; exact sset_eq
          have f253 : σ251 (L 0) = some (.inr (1, [.ref (L 1), .ref (L 2), .int (nI (v 2)), .int (nI (v 3)), .int (nI (v 4)), .int (nI (v 5))])) := by rw [hσ251, sset_ne (sto_ne0 hn_q244_ hWk.1)]; exact f246
          have f254 : σ251 (L 1) = some (.inr (2, [.int mcT, .ref (L 3), .int (nI (v 0))])) := by rw [hσ251, sset_ne (sto_ne0 hn_q244_ eT)]; exact f247
          have j255 := IsList.setO (e := .inr (9, [.int (nI i), .int (nI j), .int (nI k), .int (nI 0), .int (nI 0), .int (nI 0), .int (nI 0)])) (j248) (w245) (by decide)
          rw [← hσ251] at j255
          have f256 : σ251 (L 2) = some (.inr (2, [.int mcP, .ref (L 4), .int (nI (v 1))])) := by rw [hσ251, sset_ne (sto_ne0 hn_q244_ eP)]; exact f249
          have j257 := IsList.setO (e := .inr (9, [.int (nI i), .int (nI j), .int (nI k), .int (nI 0), .int (nI 0), .int (nI 0), .int (nI 0)])) (j250) (w245) (by decide)
          rw [← hσ251] at j257
          refine s_callF (As := [.ref q244_]) (rest := []) (C := RJ2) (T := TJ2) (N := 3) (n := 1) F hW (k_J2_add g l σ251 (L 2) (L 4) (v 1) (fun t => L (100 + t)) q244_ 9 _ _ (j257) (w252) (by decide) rfl q2846 (by rw [hσ251, hσ245, sset_sset]; exact hWk.elmP.new hn_q244_) (by omega)) (f256) rfl (List.mem_of_getElem? (i := 2) rfl) q964 q967 q969 q72 q971 (by decide +kernel) rfl ⟨⟨Nat.le_of_ble_eq_true rfl, Nat.le_of_ble_eq_true rfl⟩, ⟨(Nat.le_of_ble_eq_true rfl), (Nat.le_of_ble_eq_true rfl)⟩⟩ (Nat.le_of_ble_eq_true rfl) hl.1 rfl dX2_addPipe_86 cX_no (fun r258 σ258 H locs hp258 hW => ?_)
          obtain ⟨rfl, hadd⟩ := hp258
          refine W.eq (g2 := F0 m_ 91 ls (.int (nI 1) :: [])) rfl ?_
          rw [hσ251, hσ245, sset_sset] at hadd
          have hDid := addP hWk hI.1 (of_decide_eq_true hd69) hn_q244_ hb_q244_ hadd (fun a ha => (hW.1.2.2.2 a ha).trans (hW00.1.2.2.2 a ha).symm) (F.cs.2.2.2.2.2.2.2.2 _ (by rw [F.cs.2.1]; simp))
          obtain ⟨L9, hW9, hL0, -, -⟩ := id hDid
          generalize hv9 : va_up (upP v (v 1) i j k 0 0 0 0) 1 (v 1 + 1) = v9 at hW9
          have hv90 : v9 1 = v 1 + 1 := by rw [← hv9, va_up_self]
          have hT9 := hW9.2.2.1
          have hP9 := hW9.2.2.2.1
          obtain ⟨mcT9, nT9, fT9, eT9, bT9, -⟩ := id hT9
          obtain ⟨mcP9, nP9, fP9, eP9, bP9, -⟩ := id hP9
          refine lv_pop F.x F.cd dX2_addPipe_91 rfl ?_
          refine lv_aload_n F.x F.cd dX2_addPipe_92 rfl (lv_at hl 0 rfl) ?_
          refine s_get F hW (ci := 1) (C := RX2) (T := TX2) (N := 6) (v := .ref (L9 2)) ((by rw [← hL0]; exact hW9.1)) rfl in_X2 1 (by decide) q162 (fun _ h9 => h9) rfl dX2_addPipe_93 ?_
          refine s_callF (As := []) (rest := []) (C := RJ2) (T := TJ2) (N := 3) (n := 0) F hW (k_J2_size g l σ258 _ _ _ _ hP9) (eP9) rfl (List.mem_of_getElem? (i := 0) rfl) q317 q272 q274 q72 q276 (by decide +kernel) rfl ⟨⟨Nat.le_of_ble_eq_true rfl, Nat.le_of_ble_eq_true rfl⟩, ⟨(Nat.le_of_ble_eq_true rfl), (Nat.le_of_ble_eq_true rfl)⟩⟩ (Nat.le_of_ble_eq_true rfl) hl.1 rfl dX2_addPipe_96 cX_no (fun r259 σ259 H locs hp259 hW => ?_)
          obtain ⟨rfl, hs259⟩ := hp259
          rw [hs259] at hW
          refine W.eq (g2 := F0 m_ 101 ls (.int (nI (v9 1)) :: [])) rfl ?_
          refine lv_iconst (v := (nI 1)) F.x F.cd dX2_addPipe_101 (by decide) ?_
          refine a_isub (v := (nI (v 1))) F (by rw [hv90]; exact pk_sub (by omega)) dX2_addPipe_102 ?_
          subst hQ
          exact s_reti (v := (nI (v 1))) F hW rfl (⟨_, _, by rw [pipeR, if_pos hd23, if_pos hd45, if_pos (of_decide_eq_true hd69), cl_nI (by omega), cl_nI (by omega), cl_nI (by omega)], rfl, hDid⟩) ⟨(Nat.le_of_ble_eq_true rfl), (Nat.le_of_ble_eq_true rfl)⟩ dX2_addPipe_103
      · refine lv_iload_n F.x F.cd dX2_addPipe_31 rfl (lv_at hl 3 rfl) ?_
        refine s_callSN (As := [.int s]) (rest := []) (n := 1) F hW (k_X1_isSet g l σ s) q1252 q1253 q68 q1254 (by decide +kernel) rfl ⟨⟨Nat.le_of_ble_eq_true rfl, Nat.le_of_ble_eq_true rfl⟩, ⟨(Nat.le_of_ble_eq_true rfl), (Nat.le_of_ble_eq_true rfl)⟩⟩ (Nat.le_of_ble_eq_true rfl) hl.1 rfl dX2_addPipe_32 cX_no (fun r260 σ260 H locs hp260 hW => ?_)
        obtain ⟨rfl, hs260⟩ := hp260
        rw [hs260] at hW
        refine W.eq (g2 := F0 m_ 35 ls (.int (bI (btw s (nI 0) (nI 255))) :: [])) rfl ?_
        refine b_if_eq (b := (btw s (nI 0) (nI 255))) (tgt := 42) F dX2_addPipe_35 (by decide) (fun c_35 => ?_) (fun c_35 => ?_)
        · refine lv_iconst (v := (nI 0)) F.x F.cd dX2_addPipe_42 (by decide) ?_
          refine W.eq (g2 := F0 m_ 43 ls (.int (bI (decide (x ≠ y) && btw s (nI 0) (nI 255))) :: [])) (by rw [show (decide (x ≠ y) && btw s (nI 0) (nI 255)) = false by simp [c_28, c_35]]; rfl) ?_
          refine s_ldcS F q1209 dX2_addPipe_43 ?_
          refine s_callSN (As := [.int (bI (decide (x ≠ y) && btw s (nI 0) (nI 255))), .ref (gS g "FilterWaterworks$Works" 64)]) (rest := []) (n := 2) F hW (k_X1_demand g l σ (decide (x ≠ y) && btw s (nI 0) (nI 255)) (gS g "FilterWaterworks$Works" 64) "argument" ⟨"FilterWaterworks$Works", 64, q1209, rfl⟩) q1210 q1211 q68 q1212 (by decide +kernel) rfl ⟨⟨Nat.le_of_ble_eq_true rfl, Nat.le_of_ble_eq_true rfl⟩, ⟨(Nat.le_of_ble_eq_true rfl), (Nat.le_of_ble_eq_true rfl)⟩⟩ (Nat.le_of_ble_eq_true rfl) hl.1 rfl dX2_addPipe_45 (by subst hQ; exact cX_out F ⟨(Nat.le_of_ble_eq_true rfl), (Nat.le_of_ble_eq_true rfl)⟩ (fun q9 E9 σ9 hp9 => ⟨"argument", by rw [pipeR, if_pos hd23, if_neg (by rw [hp9.1]; decide)], hp9.2⟩)) (fun r261 σ261 H locs hp261 hW => ?_)
          obtain ⟨rfl, hs261, hd45⟩ := hp261
          rw [hs261] at hW
          refine W.eq (g2 := F0 m_ 48 ls ([])) rfl ?_
          refine lv_aload_n F.x F.cd dX2_addPipe_48 rfl (lv_at hl 0 rfl) ?_
          refine s_get F hW (ci := 1) (C := RX2) (T := TX2) (N := 6) (v := .ref (L 2)) (hWk.1) rfl in_X2 1 (by decide) q162 (fun _ h9 => h9) rfl dX2_addPipe_49 ?_
          refine s_callF (As := []) (rest := []) (C := RJ2) (T := TJ2) (N := 3) (n := 0) F hW (k_J2_size g l σ _ _ _ _ hP) (eP) rfl (List.mem_of_getElem? (i := 0) rfl) q317 q272 q274 q72 q276 (by decide +kernel) rfl ⟨⟨Nat.le_of_ble_eq_true rfl, Nat.le_of_ble_eq_true rfl⟩, ⟨(Nat.le_of_ble_eq_true rfl), (Nat.le_of_ble_eq_true rfl)⟩⟩ (Nat.le_of_ble_eq_true rfl) hl.1 rfl dX2_addPipe_52 cX_no (fun r262 σ262 H locs hp262 hW => ?_)
          obtain ⟨rfl, hs262⟩ := hp262
          rw [hs262] at hW
          refine W.eq (g2 := F0 m_ 57 ls (.int (nI (v 1)) :: [])) rfl ?_
          refine lv_bipush (v := (nI 12)) F.x F.cd dX2_addPipe_57 (by decide) ?_
          refine n_icmp_ge (a := v 1) (b := 12) (tgt := 66) F (by omega) (by omega) dX2_addPipe_59 (by decide) (fun c_59 => ?_) (fun c_59 => ?_)
          · refine lv_iconst (v := (nI 0)) F.x F.cd dX2_addPipe_66 (by decide) ?_
            refine W.eq (g2 := F0 m_ 67 ls (.int (bI (decide (v 1 < 12))) :: [])) (by rw [show decide (v 1 < 12) = false by simp; omega]; rfl) ?_
            refine s_ldcS F q1239 dX2_addPipe_67 ?_
            refine s_callSN (As := [.int (bI (decide (v 1 < 12))), .ref (gS g "FilterWaterworks$Works" 70)]) (rest := []) (n := 2) F hW (k_X1_demand g l σ (decide (v 1 < 12)) (gS g "FilterWaterworks$Works" 70) "state" ⟨"FilterWaterworks$Works", 70, q1239, rfl⟩) q1210 q1211 q68 q1212 (by decide +kernel) rfl ⟨⟨Nat.le_of_ble_eq_true rfl, Nat.le_of_ble_eq_true rfl⟩, ⟨(Nat.le_of_ble_eq_true rfl), (Nat.le_of_ble_eq_true rfl)⟩⟩ (Nat.le_of_ble_eq_true rfl) hl.1 rfl dX2_addPipe_69 (by subst hQ; exact cX_out F ⟨(Nat.le_of_ble_eq_true rfl), (Nat.le_of_ble_eq_true rfl)⟩ (fun q9 E9 σ9 hp9 => ⟨"state", by rw [pipeR, if_pos hd23, if_pos hd45, if_neg (of_decide_eq_false hp9.1)], hp9.2⟩)) (fun r263 σ263 H locs hp263 hW => ?_)
            obtain ⟨rfl, hs263, hd69⟩ := hp263
            rw [hs263] at hW
            refine W.eq (g2 := F0 m_ 72 ls ([])) rfl ?_
            have h1a := (Bool.and_eq_true _ _ ▸ hd23 : _ ∧ _)
            have h2a := (Bool.and_eq_true _ _ ▸ hd45 : _ ∧ _)
            obtain ⟨i, hi, rfl⟩ := (inN_iff (show v 0 < 2 ^ 30 by omega)).mp h1a.1
            obtain ⟨j, hj, rfl⟩ := (inN_iff (show v 0 < 2 ^ 30 by omega)).mp h1a.2
            obtain ⟨k, hk1, hk2, rfl⟩ := (btw_iff (by decide) (by decide)).mp h2a.2
            refine lv_aload_n F.x F.cd dX2_addPipe_72 rfl (lv_at hl 0 rfl) ?_
            refine s_get F hW (ci := 1) (C := RX2) (T := TX2) (N := 6) (v := .ref (L 2)) (hWk.1) rfl in_X2 1 (by decide) q162 (fun _ h9 => h9) rfl dX2_addPipe_73 ?_
            refine s_new F hW 9 (C := RX5) (T := TX5) (N := 7) (fs := [.int (nI 0), .int (nI 0), .int (nI 0), .int (nI 0), .int (nI 0), .int (nI 0), .int (nI 0)]) rfl in_X5 tyX5_ok q694 q1062 q96 (fun j hj => by rcases (show j = 0 ∨ j = 1 ∨ j = 2 ∨ j = 3 ∨ j = 4 ∨ j = 5 ∨ j = 6 by omega) with rfl | rfl | rfl | rfl | rfl | rfl | rfl <;> rfl) (Nat.le_of_ble_eq_true rfl) (Nat.le_of_ble_eq_true rfl) dX2_addPipe_76 (fun q264_ H hb_q264_ hn_q264_ hW => ?_)
            obtain ⟨σ265, hσ265⟩ : ∃ z, z = sset σ q264_ (.inr (9, [.int (nI 0), .int (nI 0), .int (nI 0), .int (nI 0), .int (nI 0), .int (nI 0), .int (nI 0)])) := ⟨_, rfl⟩
            have hW : Hl g σ265 H locs := by rw [hσ265]; exact hW
            have w265 : σ265 q264_ = some (.inr (9, [.int (nI 0), .int (nI 0), .int (nI 0), .int (nI 0), .int (nI 0), .int (nI 0), .int (nI 0)])) := by rw [hσ265]; exact sset_eq
            have f266 : σ265 (L 0) = some (.inr (1, [.ref (L 1), .ref (L 2), .int (nI (v 2)), .int (nI (v 3)), .int (nI (v 4)), .int (nI (v 5))])) := by rw [hσ265, sset_ne (sto_ne0 hn_q264_ hWk.1)]; exact hWk.1
            have f267 : σ265 (L 1) = some (.inr (2, [.int mcT, .ref (L 3), .int (nI (v 0))])) := by rw [hσ265, sset_ne (sto_ne0 hn_q264_ eT)]; exact eT
            have j268 := IsList.new (e := .inr (9, [.int (nI 0), .int (nI 0), .int (nI 0), .int (nI 0), .int (nI 0), .int (nI 0), .int (nI 0)])) (hT) (hn_q264_)
            rw [← hσ265] at j268
            have f269 : σ265 (L 2) = some (.inr (2, [.int mcP, .ref (L 4), .int (nI (v 1))])) := by rw [hσ265, sset_ne (sto_ne0 hn_q264_ eP)]; exact eP
            have j270 := IsList.new (e := .inr (9, [.int (nI 0), .int (nI 0), .int (nI 0), .int (nI 0), .int (nI 0), .int (nI 0), .int (nI 0)])) (hP) (hn_q264_)
            rw [← hσ265] at j270
            refine lv_dup F.x F.cd dX2_addPipe_79 rfl ?_
            refine lv_iload_n F.x F.cd dX2_addPipe_80 rfl (lv_at hl 1 rfl) ?_
            refine lv_iload_n F.x F.cd dX2_addPipe_81 rfl (lv_at hl 2 rfl) ?_
            refine lv_iload_n F.x F.cd dX2_addPipe_82 rfl (lv_at hl 3 rfl) ?_
            refine s_callI (As := [.int (nI i), .int (nI j), .int (nI k)]) (rest := [.ref q264_, .ref (L 2)]) (n := 3) F hW (k_X5_init g l σ265 q264_ i j k (w265) (hb_q264_)) q1256 q1064 q96 q1065 rfl (by decide +kernel) rfl ⟨⟨Nat.le_of_ble_eq_true rfl, Nat.le_of_ble_eq_true rfl⟩, ⟨(Nat.le_of_ble_eq_true rfl), (Nat.le_of_ble_eq_true rfl)⟩⟩ (Nat.le_of_ble_eq_true rfl) hl.1 rfl dX2_addPipe_83 cX_no (fun r271 σ271 H locs hp271 hW => ?_)
            obtain ⟨rfl, rfl⟩ := hp271
            refine W.eq (g2 := F0 m_ 86 ls (.ref q264_ :: .ref (L 2) :: [])) rfl ?_
            obtain ⟨σ271, hσ271⟩ : ∃ z, z = sset σ265 q264_ (oPipe i j k 0 0 0 0) := ⟨_, rfl⟩
            rw [← hσ271] at hW
            have w272 : σ271 q264_ = some (.inr (9, [.int (nI i), .int (nI j), .int (nI k), .int (nI 0), .int (nI 0), .int (nI 0), .int (nI 0)])) := by rw [hσ271]; exact sset_eq
            have f273 : σ271 (L 0) = some (.inr (1, [.ref (L 1), .ref (L 2), .int (nI (v 2)), .int (nI (v 3)), .int (nI (v 4)), .int (nI (v 5))])) := by rw [hσ271, sset_ne (sto_ne0 hn_q264_ hWk.1)]; exact f266
            have f274 : σ271 (L 1) = some (.inr (2, [.int mcT, .ref (L 3), .int (nI (v 0))])) := by rw [hσ271, sset_ne (sto_ne0 hn_q264_ eT)]; exact f267
            have j275 := IsList.setO (e := .inr (9, [.int (nI i), .int (nI j), .int (nI k), .int (nI 0), .int (nI 0), .int (nI 0), .int (nI 0)])) (j268) (w265) (by decide)
            rw [← hσ271] at j275
            have f276 : σ271 (L 2) = some (.inr (2, [.int mcP, .ref (L 4), .int (nI (v 1))])) := by rw [hσ271, sset_ne (sto_ne0 hn_q264_ eP)]; exact f269
            have j277 := IsList.setO (e := .inr (9, [.int (nI i), .int (nI j), .int (nI k), .int (nI 0), .int (nI 0), .int (nI 0), .int (nI 0)])) (j270) (w265) (by decide)
            rw [← hσ271] at j277
            refine s_callF (As := [.ref q264_]) (rest := []) (C := RJ2) (T := TJ2) (N := 3) (n := 1) F hW (k_J2_add g l σ271 (L 2) (L 4) (v 1) (fun t => L (100 + t)) q264_ 9 _ _ (j277) (w272) (by decide) rfl q2846 (by rw [hσ271, hσ265, sset_sset]; exact hWk.elmP.new hn_q264_) (by omega)) (f276) rfl (List.mem_of_getElem? (i := 2) rfl) q964 q967 q969 q72 q971 (by decide +kernel) rfl ⟨⟨Nat.le_of_ble_eq_true rfl, Nat.le_of_ble_eq_true rfl⟩, ⟨(Nat.le_of_ble_eq_true rfl), (Nat.le_of_ble_eq_true rfl)⟩⟩ (Nat.le_of_ble_eq_true rfl) hl.1 rfl dX2_addPipe_86 cX_no (fun r278 σ278 H locs hp278 hW => ?_)
            obtain ⟨rfl, hadd⟩ := hp278
            refine W.eq (g2 := F0 m_ 91 ls (.int (nI 1) :: [])) rfl ?_
            rw [hσ271, hσ265, sset_sset] at hadd
            have hDid := addP hWk hI.1 (of_decide_eq_true hd69) hn_q264_ hb_q264_ hadd (fun a ha => (hW.1.2.2.2 a ha).trans (hW00.1.2.2.2 a ha).symm) (F.cs.2.2.2.2.2.2.2.2 _ (by rw [F.cs.2.1]; simp))
            obtain ⟨L9, hW9, hL0, -, -⟩ := id hDid
            generalize hv9 : va_up (upP v (v 1) i j k 0 0 0 0) 1 (v 1 + 1) = v9 at hW9
            have hv90 : v9 1 = v 1 + 1 := by rw [← hv9, va_up_self]
            have hT9 := hW9.2.2.1
            have hP9 := hW9.2.2.2.1
            obtain ⟨mcT9, nT9, fT9, eT9, bT9, -⟩ := id hT9
            obtain ⟨mcP9, nP9, fP9, eP9, bP9, -⟩ := id hP9
            refine lv_pop F.x F.cd dX2_addPipe_91 rfl ?_
            refine lv_aload_n F.x F.cd dX2_addPipe_92 rfl (lv_at hl 0 rfl) ?_
            refine s_get F hW (ci := 1) (C := RX2) (T := TX2) (N := 6) (v := .ref (L9 2)) ((by rw [← hL0]; exact hW9.1)) rfl in_X2 1 (by decide) q162 (fun _ h9 => h9) rfl dX2_addPipe_93 ?_
            refine s_callF (As := []) (rest := []) (C := RJ2) (T := TJ2) (N := 3) (n := 0) F hW (k_J2_size g l σ278 _ _ _ _ hP9) (eP9) rfl (List.mem_of_getElem? (i := 0) rfl) q317 q272 q274 q72 q276 (by decide +kernel) rfl ⟨⟨Nat.le_of_ble_eq_true rfl, Nat.le_of_ble_eq_true rfl⟩, ⟨(Nat.le_of_ble_eq_true rfl), (Nat.le_of_ble_eq_true rfl)⟩⟩ (Nat.le_of_ble_eq_true rfl) hl.1 rfl dX2_addPipe_96 cX_no (fun r279 σ279 H locs hp279 hW => ?_)
            obtain ⟨rfl, hs279⟩ := hp279
            rw [hs279] at hW
            refine W.eq (g2 := F0 m_ 101 ls (.int (nI (v9 1)) :: [])) rfl ?_
            refine lv_iconst (v := (nI 1)) F.x F.cd dX2_addPipe_101 (by decide) ?_
            refine a_isub (v := (nI (v 1))) F (by rw [hv90]; exact pk_sub (by omega)) dX2_addPipe_102 ?_
            subst hQ
            exact s_reti (v := (nI (v 1))) F hW rfl (⟨_, _, by rw [pipeR, if_pos hd23, if_pos hd45, if_pos (of_decide_eq_true hd69), cl_nI (by omega), cl_nI (by omega), cl_nI (by omega)], rfl, hDid⟩) ⟨(Nat.le_of_ble_eq_true rfl), (Nat.le_of_ble_eq_true rfl)⟩ dX2_addPipe_103
          · refine lv_iconst (v := (nI 1)) F.x F.cd dX2_addPipe_62 (by decide) ?_
            refine lv_goto (tgt := 67) F.x F.cd dX2_addPipe_63 (by decide) ?_
            refine W.eq (g2 := F0 m_ 67 ls (.int (bI (decide (v 1 < 12))) :: [])) (by rw [show decide (v 1 < 12) = true by simp; omega]; rfl) ?_
            refine s_ldcS F q1239 dX2_addPipe_67 ?_
            refine s_callSN (As := [.int (bI (decide (v 1 < 12))), .ref (gS g "FilterWaterworks$Works" 70)]) (rest := []) (n := 2) F hW (k_X1_demand g l σ (decide (v 1 < 12)) (gS g "FilterWaterworks$Works" 70) "state" ⟨"FilterWaterworks$Works", 70, q1239, rfl⟩) q1210 q1211 q68 q1212 (by decide +kernel) rfl ⟨⟨Nat.le_of_ble_eq_true rfl, Nat.le_of_ble_eq_true rfl⟩, ⟨(Nat.le_of_ble_eq_true rfl), (Nat.le_of_ble_eq_true rfl)⟩⟩ (Nat.le_of_ble_eq_true rfl) hl.1 rfl dX2_addPipe_69 (by subst hQ; exact cX_out F ⟨(Nat.le_of_ble_eq_true rfl), (Nat.le_of_ble_eq_true rfl)⟩ (fun q9 E9 σ9 hp9 => ⟨"state", by rw [pipeR, if_pos hd23, if_pos hd45, if_neg (of_decide_eq_false hp9.1)], hp9.2⟩)) (fun r280 σ280 H locs hp280 hW => ?_)
            obtain ⟨rfl, hs280, hd69⟩ := hp280
            rw [hs280] at hW
            refine W.eq (g2 := F0 m_ 72 ls ([])) rfl ?_
            have h1a := (Bool.and_eq_true _ _ ▸ hd23 : _ ∧ _)
            have h2a := (Bool.and_eq_true _ _ ▸ hd45 : _ ∧ _)
            obtain ⟨i, hi, rfl⟩ := (inN_iff (show v 0 < 2 ^ 30 by omega)).mp h1a.1
            obtain ⟨j, hj, rfl⟩ := (inN_iff (show v 0 < 2 ^ 30 by omega)).mp h1a.2
            obtain ⟨k, hk1, hk2, rfl⟩ := (btw_iff (by decide) (by decide)).mp h2a.2
            refine lv_aload_n F.x F.cd dX2_addPipe_72 rfl (lv_at hl 0 rfl) ?_
            refine s_get F hW (ci := 1) (C := RX2) (T := TX2) (N := 6) (v := .ref (L 2)) (hWk.1) rfl in_X2 1 (by decide) q162 (fun _ h9 => h9) rfl dX2_addPipe_73 ?_
            refine s_new F hW 9 (C := RX5) (T := TX5) (N := 7) (fs := [.int (nI 0), .int (nI 0), .int (nI 0), .int (nI 0), .int (nI 0), .int (nI 0), .int (nI 0)]) rfl in_X5 tyX5_ok q694 q1062 q96 (fun j hj => by rcases (show j = 0 ∨ j = 1 ∨ j = 2 ∨ j = 3 ∨ j = 4 ∨ j = 5 ∨ j = 6 by omega) with rfl | rfl | rfl | rfl | rfl | rfl | rfl <;> rfl) (Nat.le_of_ble_eq_true rfl) (Nat.le_of_ble_eq_true rfl) dX2_addPipe_76 (fun q281_ H hb_q281_ hn_q281_ hW => ?_)
            obtain ⟨σ282, hσ282⟩ : ∃ z, z = sset σ q281_ (.inr (9, [.int (nI 0), .int (nI 0), .int (nI 0), .int (nI 0), .int (nI 0), .int (nI 0), .int (nI 0)])) := ⟨_, rfl⟩
            have hW : Hl g σ282 H locs := by rw [hσ282]; exact hW
            have w282 : σ282 q281_ = some (.inr (9, [.int (nI 0), .int (nI 0), .int (nI 0), .int (nI 0), .int (nI 0), .int (nI 0), .int (nI 0)])) := by rw [hσ282]; exact sset_eq
            have f283 : σ282 (L 0) = some (.inr (1, [.ref (L 1), .ref (L 2), .int (nI (v 2)), .int (nI (v 3)), .int (nI (v 4)), .int (nI (v 5))])) := by rw [hσ282, sset_ne (sto_ne0 hn_q281_ hWk.1)]; exact hWk.1
            have f284 : σ282 (L 1) = some (.inr (2, [.int mcT, .ref (L 3), .int (nI (v 0))])) := by rw [hσ282, sset_ne (sto_ne0 hn_q281_ eT)]; exact eT
            have j285 := IsList.new (e := .inr (9, [.int (nI 0), .int (nI 0), .int (nI 0), .int (nI 0), .int (nI 0), .int (nI 0), .int (nI 0)])) (hT) (hn_q281_)
            rw [← hσ282] at j285
            have f286 : σ282 (L 2) = some (.inr (2, [.int mcP, .ref (L 4), .int (nI (v 1))])) := by rw [hσ282, sset_ne (sto_ne0 hn_q281_ eP)]; exact eP
            have j287 := IsList.new (e := .inr (9, [.int (nI 0), .int (nI 0), .int (nI 0), .int (nI 0), .int (nI 0), .int (nI 0), .int (nI 0)])) (hP) (hn_q281_)
            rw [← hσ282] at j287
            refine lv_dup F.x F.cd dX2_addPipe_79 rfl ?_
            refine lv_iload_n F.x F.cd dX2_addPipe_80 rfl (lv_at hl 1 rfl) ?_
            refine lv_iload_n F.x F.cd dX2_addPipe_81 rfl (lv_at hl 2 rfl) ?_
            refine lv_iload_n F.x F.cd dX2_addPipe_82 rfl (lv_at hl 3 rfl) ?_
            refine s_callI (As := [.int (nI i), .int (nI j), .int (nI k)]) (rest := [.ref q281_, .ref (L 2)]) (n := 3) F hW (k_X5_init g l σ282 q281_ i j k (w282) (hb_q281_)) q1256 q1064 q96 q1065 rfl (by decide +kernel) rfl ⟨⟨Nat.le_of_ble_eq_true rfl, Nat.le_of_ble_eq_true rfl⟩, ⟨(Nat.le_of_ble_eq_true rfl), (Nat.le_of_ble_eq_true rfl)⟩⟩ (Nat.le_of_ble_eq_true rfl) hl.1 rfl dX2_addPipe_83 cX_no (fun r288 σ288 H locs hp288 hW => ?_)
            obtain ⟨rfl, rfl⟩ := hp288
            refine W.eq (g2 := F0 m_ 86 ls (.ref q281_ :: .ref (L 2) :: [])) rfl ?_
            obtain ⟨σ288, hσ288⟩ : ∃ z, z = sset σ282 q281_ (oPipe i j k 0 0 0 0) := ⟨_, rfl⟩
            rw [← hσ288] at hW
            have w289 : σ288 q281_ = some (.inr (9, [.int (nI i), .int (nI j), .int (nI k), .int (nI 0), .int (nI 0), .int (nI 0), .int (nI 0)])) := by rw [hσ288]; exact sset_eq
            have f290 : σ288 (L 0) = some (.inr (1, [.ref (L 1), .ref (L 2), .int (nI (v 2)), .int (nI (v 3)), .int (nI (v 4)), .int (nI (v 5))])) := by rw [hσ288, sset_ne (sto_ne0 hn_q281_ hWk.1)]; exact f283
            have f291 : σ288 (L 1) = some (.inr (2, [.int mcT, .ref (L 3), .int (nI (v 0))])) := by rw [hσ288, sset_ne (sto_ne0 hn_q281_ eT)]; exact f284
            have j292 := IsList.setO (e := .inr (9, [.int (nI i), .int (nI j), .int (nI k), .int (nI 0), .int (nI 0), .int (nI 0), .int (nI 0)])) (j285) (w282) (by decide)
            rw [← hσ288] at j292
            have f293 : σ288 (L 2) = some (.inr (2, [.int mcP, .ref (L 4), .int (nI (v 1))])) := by rw [hσ288, sset_ne (sto_ne0 hn_q281_ eP)]; exact f286
            have j294 := IsList.setO (e := .inr (9, [.int (nI i), .int (nI j), .int (nI k), .int (nI 0), .int (nI 0), .int (nI 0), .int (nI 0)])) (j287) (w282) (by decide)
            rw [← hσ288] at j294
            refine s_callF (As := [.ref q281_]) (rest := []) (C := RJ2) (T := TJ2) (N := 3) (n := 1) F hW (k_J2_add g l σ288 (L 2) (L 4) (v 1) (fun t => L (100 + t)) q281_ 9 _ _ (j294) (w289) (by decide) rfl q2846 (by rw [hσ288, hσ282, sset_sset]; exact hWk.elmP.new hn_q281_) (by omega)) (f293) rfl (List.mem_of_getElem? (i := 2) rfl) q964 q967 q969 q72 q971 (by decide +kernel) rfl ⟨⟨Nat.le_of_ble_eq_true rfl, Nat.le_of_ble_eq_true rfl⟩, ⟨(Nat.le_of_ble_eq_true rfl), (Nat.le_of_ble_eq_true rfl)⟩⟩ (Nat.le_of_ble_eq_true rfl) hl.1 rfl dX2_addPipe_86 cX_no (fun r295 σ295 H locs hp295 hW => ?_)
            obtain ⟨rfl, hadd⟩ := hp295
            refine W.eq (g2 := F0 m_ 91 ls (.int (nI 1) :: [])) rfl ?_
            rw [hσ288, hσ282, sset_sset] at hadd
            have hDid := addP hWk hI.1 (of_decide_eq_true hd69) hn_q281_ hb_q281_ hadd (fun a ha => (hW.1.2.2.2 a ha).trans (hW00.1.2.2.2 a ha).symm) (F.cs.2.2.2.2.2.2.2.2 _ (by rw [F.cs.2.1]; simp))
            obtain ⟨L9, hW9, hL0, -, -⟩ := id hDid
            generalize hv9 : va_up (upP v (v 1) i j k 0 0 0 0) 1 (v 1 + 1) = v9 at hW9
            have hv90 : v9 1 = v 1 + 1 := by rw [← hv9, va_up_self]
            have hT9 := hW9.2.2.1
            have hP9 := hW9.2.2.2.1
            obtain ⟨mcT9, nT9, fT9, eT9, bT9, -⟩ := id hT9
            obtain ⟨mcP9, nP9, fP9, eP9, bP9, -⟩ := id hP9
            refine lv_pop F.x F.cd dX2_addPipe_91 rfl ?_
            refine lv_aload_n F.x F.cd dX2_addPipe_92 rfl (lv_at hl 0 rfl) ?_
            refine s_get F hW (ci := 1) (C := RX2) (T := TX2) (N := 6) (v := .ref (L9 2)) ((by rw [← hL0]; exact hW9.1)) rfl in_X2 1 (by decide) q162 (fun _ h9 => h9) rfl dX2_addPipe_93 ?_
            refine s_callF (As := []) (rest := []) (C := RJ2) (T := TJ2) (N := 3) (n := 0) F hW (k_J2_size g l σ295 _ _ _ _ hP9) (eP9) rfl (List.mem_of_getElem? (i := 0) rfl) q317 q272 q274 q72 q276 (by decide +kernel) rfl ⟨⟨Nat.le_of_ble_eq_true rfl, Nat.le_of_ble_eq_true rfl⟩, ⟨(Nat.le_of_ble_eq_true rfl), (Nat.le_of_ble_eq_true rfl)⟩⟩ (Nat.le_of_ble_eq_true rfl) hl.1 rfl dX2_addPipe_96 cX_no (fun r296 σ296 H locs hp296 hW => ?_)
            obtain ⟨rfl, hs296⟩ := hp296
            rw [hs296] at hW
            refine W.eq (g2 := F0 m_ 101 ls (.int (nI (v9 1)) :: [])) rfl ?_
            refine lv_iconst (v := (nI 1)) F.x F.cd dX2_addPipe_101 (by decide) ?_
            refine a_isub (v := (nI (v 1))) F (by rw [hv90]; exact pk_sub (by omega)) dX2_addPipe_102 ?_
            subst hQ
            exact s_reti (v := (nI (v 1))) F hW rfl (⟨_, _, by rw [pipeR, if_pos hd23, if_pos hd45, if_pos (of_decide_eq_true hd69), cl_nI (by omega), cl_nI (by omega), cl_nI (by omega)], rfl, hDid⟩) ⟨(Nat.le_of_ble_eq_true rfl), (Nat.le_of_ble_eq_true rfl)⟩ dX2_addPipe_103
        · refine lv_iconst (v := (nI 1)) F.x F.cd dX2_addPipe_38 (by decide) ?_
          refine lv_goto (tgt := 43) F.x F.cd dX2_addPipe_39 (by decide) ?_
          refine W.eq (g2 := F0 m_ 43 ls (.int (bI (decide (x ≠ y) && btw s (nI 0) (nI 255))) :: [])) (by rw [show (decide (x ≠ y) && btw s (nI 0) (nI 255)) = true by simp [c_28, c_35]]; rfl) ?_
          refine s_ldcS F q1209 dX2_addPipe_43 ?_
          refine s_callSN (As := [.int (bI (decide (x ≠ y) && btw s (nI 0) (nI 255))), .ref (gS g "FilterWaterworks$Works" 64)]) (rest := []) (n := 2) F hW (k_X1_demand g l σ (decide (x ≠ y) && btw s (nI 0) (nI 255)) (gS g "FilterWaterworks$Works" 64) "argument" ⟨"FilterWaterworks$Works", 64, q1209, rfl⟩) q1210 q1211 q68 q1212 (by decide +kernel) rfl ⟨⟨Nat.le_of_ble_eq_true rfl, Nat.le_of_ble_eq_true rfl⟩, ⟨(Nat.le_of_ble_eq_true rfl), (Nat.le_of_ble_eq_true rfl)⟩⟩ (Nat.le_of_ble_eq_true rfl) hl.1 rfl dX2_addPipe_45 (by subst hQ; exact cX_out F ⟨(Nat.le_of_ble_eq_true rfl), (Nat.le_of_ble_eq_true rfl)⟩ (fun q9 E9 σ9 hp9 => ⟨"argument", by rw [pipeR, if_pos hd23, if_neg (by rw [hp9.1]; decide)], hp9.2⟩)) (fun r297 σ297 H locs hp297 hW => ?_)
          obtain ⟨rfl, hs297, hd45⟩ := hp297
          rw [hs297] at hW
          refine W.eq (g2 := F0 m_ 48 ls ([])) rfl ?_
          refine lv_aload_n F.x F.cd dX2_addPipe_48 rfl (lv_at hl 0 rfl) ?_
          refine s_get F hW (ci := 1) (C := RX2) (T := TX2) (N := 6) (v := .ref (L 2)) (hWk.1) rfl in_X2 1 (by decide) q162 (fun _ h9 => h9) rfl dX2_addPipe_49 ?_
          refine s_callF (As := []) (rest := []) (C := RJ2) (T := TJ2) (N := 3) (n := 0) F hW (k_J2_size g l σ _ _ _ _ hP) (eP) rfl (List.mem_of_getElem? (i := 0) rfl) q317 q272 q274 q72 q276 (by decide +kernel) rfl ⟨⟨Nat.le_of_ble_eq_true rfl, Nat.le_of_ble_eq_true rfl⟩, ⟨(Nat.le_of_ble_eq_true rfl), (Nat.le_of_ble_eq_true rfl)⟩⟩ (Nat.le_of_ble_eq_true rfl) hl.1 rfl dX2_addPipe_52 cX_no (fun r298 σ298 H locs hp298 hW => ?_)
          obtain ⟨rfl, hs298⟩ := hp298
          rw [hs298] at hW
          refine W.eq (g2 := F0 m_ 57 ls (.int (nI (v 1)) :: [])) rfl ?_
          refine lv_bipush (v := (nI 12)) F.x F.cd dX2_addPipe_57 (by decide) ?_
          refine n_icmp_ge (a := v 1) (b := 12) (tgt := 66) F (by omega) (by omega) dX2_addPipe_59 (by decide) (fun c_59 => ?_) (fun c_59 => ?_)
          · refine lv_iconst (v := (nI 0)) F.x F.cd dX2_addPipe_66 (by decide) ?_
            refine W.eq (g2 := F0 m_ 67 ls (.int (bI (decide (v 1 < 12))) :: [])) (by rw [show decide (v 1 < 12) = false by simp; omega]; rfl) ?_
            refine s_ldcS F q1239 dX2_addPipe_67 ?_
            refine s_callSN (As := [.int (bI (decide (v 1 < 12))), .ref (gS g "FilterWaterworks$Works" 70)]) (rest := []) (n := 2) F hW (k_X1_demand g l σ (decide (v 1 < 12)) (gS g "FilterWaterworks$Works" 70) "state" ⟨"FilterWaterworks$Works", 70, q1239, rfl⟩) q1210 q1211 q68 q1212 (by decide +kernel) rfl ⟨⟨Nat.le_of_ble_eq_true rfl, Nat.le_of_ble_eq_true rfl⟩, ⟨(Nat.le_of_ble_eq_true rfl), (Nat.le_of_ble_eq_true rfl)⟩⟩ (Nat.le_of_ble_eq_true rfl) hl.1 rfl dX2_addPipe_69 (by subst hQ; exact cX_out F ⟨(Nat.le_of_ble_eq_true rfl), (Nat.le_of_ble_eq_true rfl)⟩ (fun q9 E9 σ9 hp9 => ⟨"state", by rw [pipeR, if_pos hd23, if_pos hd45, if_neg (of_decide_eq_false hp9.1)], hp9.2⟩)) (fun r299 σ299 H locs hp299 hW => ?_)
            obtain ⟨rfl, hs299, hd69⟩ := hp299
            rw [hs299] at hW
            refine W.eq (g2 := F0 m_ 72 ls ([])) rfl ?_
            have h1a := (Bool.and_eq_true _ _ ▸ hd23 : _ ∧ _)
            have h2a := (Bool.and_eq_true _ _ ▸ hd45 : _ ∧ _)
            obtain ⟨i, hi, rfl⟩ := (inN_iff (show v 0 < 2 ^ 30 by omega)).mp h1a.1
            obtain ⟨j, hj, rfl⟩ := (inN_iff (show v 0 < 2 ^ 30 by omega)).mp h1a.2
            obtain ⟨k, hk1, hk2, rfl⟩ := (btw_iff (by decide) (by decide)).mp h2a.2
            refine lv_aload_n F.x F.cd dX2_addPipe_72 rfl (lv_at hl 0 rfl) ?_
            refine s_get F hW (ci := 1) (C := RX2) (T := TX2) (N := 6) (v := .ref (L 2)) (hWk.1) rfl in_X2 1 (by decide) q162 (fun _ h9 => h9) rfl dX2_addPipe_73 ?_
            refine s_new F hW 9 (C := RX5) (T := TX5) (N := 7) (fs := [.int (nI 0), .int (nI 0), .int (nI 0), .int (nI 0), .int (nI 0), .int (nI 0), .int (nI 0)]) rfl in_X5 tyX5_ok q694 q1062 q96 (fun j hj => by rcases (show j = 0 ∨ j = 1 ∨ j = 2 ∨ j = 3 ∨ j = 4 ∨ j = 5 ∨ j = 6 by omega) with rfl | rfl | rfl | rfl | rfl | rfl | rfl <;> rfl) (Nat.le_of_ble_eq_true rfl) (Nat.le_of_ble_eq_true rfl) dX2_addPipe_76 (fun q300_ H hb_q300_ hn_q300_ hW => ?_)
            obtain ⟨σ301, hσ301⟩ : ∃ z, z = sset σ q300_ (.inr (9, [.int (nI 0), .int (nI 0), .int (nI 0), .int (nI 0), .int (nI 0), .int (nI 0), .int (nI 0)])) := ⟨_, rfl⟩
            have hW : Hl g σ301 H locs := by rw [hσ301]; exact hW
            have w301 : σ301 q300_ = some (.inr (9, [.int (nI 0), .int (nI 0), .int (nI 0), .int (nI 0), .int (nI 0), .int (nI 0), .int (nI 0)])) := by rw [hσ301]; exact sset_eq
            have f302 : σ301 (L 0) = some (.inr (1, [.ref (L 1), .ref (L 2), .int (nI (v 2)), .int (nI (v 3)), .int (nI (v 4)), .int (nI (v 5))])) := by rw [hσ301, sset_ne (sto_ne0 hn_q300_ hWk.1)]; exact hWk.1
            have f303 : σ301 (L 1) = some (.inr (2, [.int mcT, .ref (L 3), .int (nI (v 0))])) := by rw [hσ301, sset_ne (sto_ne0 hn_q300_ eT)]; exact eT
            have j304 := IsList.new (e := .inr (9, [.int (nI 0), .int (nI 0), .int (nI 0), .int (nI 0), .int (nI 0), .int (nI 0), .int (nI 0)])) (hT) (hn_q300_)
            rw [← hσ301] at j304
            have f305 : σ301 (L 2) = some (.inr (2, [.int mcP, .ref (L 4), .int (nI (v 1))])) := by rw [hσ301, sset_ne (sto_ne0 hn_q300_ eP)]; exact eP
            have j306 := IsList.new (e := .inr (9, [.int (nI 0), .int (nI 0), .int (nI 0), .int (nI 0), .int (nI 0), .int (nI 0), .int (nI 0)])) (hP) (hn_q300_)
            rw [← hσ301] at j306
            refine lv_dup F.x F.cd dX2_addPipe_79 rfl ?_
            refine lv_iload_n F.x F.cd dX2_addPipe_80 rfl (lv_at hl 1 rfl) ?_
            refine lv_iload_n F.x F.cd dX2_addPipe_81 rfl (lv_at hl 2 rfl) ?_
            refine lv_iload_n F.x F.cd dX2_addPipe_82 rfl (lv_at hl 3 rfl) ?_
            refine s_callI (As := [.int (nI i), .int (nI j), .int (nI k)]) (rest := [.ref q300_, .ref (L 2)]) (n := 3) F hW (k_X5_init g l σ301 q300_ i j k (w301) (hb_q300_)) q1256 q1064 q96 q1065 rfl (by decide +kernel) rfl ⟨⟨Nat.le_of_ble_eq_true rfl, Nat.le_of_ble_eq_true rfl⟩, ⟨(Nat.le_of_ble_eq_true rfl), (Nat.le_of_ble_eq_true rfl)⟩⟩ (Nat.le_of_ble_eq_true rfl) hl.1 rfl dX2_addPipe_83 cX_no (fun r307 σ307 H locs hp307 hW => ?_)
            obtain ⟨rfl, rfl⟩ := hp307
            refine W.eq (g2 := F0 m_ 86 ls (.ref q300_ :: .ref (L 2) :: [])) rfl ?_
            obtain ⟨σ307, hσ307⟩ : ∃ z, z = sset σ301 q300_ (oPipe i j k 0 0 0 0) := ⟨_, rfl⟩
            rw [← hσ307] at hW
            have w308 : σ307 q300_ = some (.inr (9, [.int (nI i), .int (nI j), .int (nI k), .int (nI 0), .int (nI 0), .int (nI 0), .int (nI 0)])) := by rw [hσ307]; exact sset_eq
            have f309 : σ307 (L 0) = some (.inr (1, [.ref (L 1), .ref (L 2), .int (nI (v 2)), .int (nI (v 3)), .int (nI (v 4)), .int (nI (v 5))])) := by rw [hσ307, sset_ne (sto_ne0 hn_q300_ hWk.1)]; exact f302
            have f310 : σ307 (L 1) = some (.inr (2, [.int mcT, .ref (L 3), .int (nI (v 0))])) := by rw [hσ307, sset_ne (sto_ne0 hn_q300_ eT)]; exact f303
            have j311 := IsList.setO (e := .inr (9, [.int (nI i), .int (nI j), .int (nI k), .int (nI 0), .int (nI 0), .int (nI 0), .int (nI 0)])) (j304) (w301) (by decide)
            rw [← hσ307] at j311
            have f312 : σ307 (L 2) = some (.inr (2, [.int mcP, .ref (L 4), .int (nI (v 1))])) := by rw [hσ307, sset_ne (sto_ne0 hn_q300_ eP)]; exact f305
            have j313 := IsList.setO (e := .inr (9, [.int (nI i), .int (nI j), .int (nI k), .int (nI 0), .int (nI 0), .int (nI 0), .int (nI 0)])) (j306) (w301) (by decide)
            rw [← hσ307] at j313
            refine s_callF (As := [.ref q300_]) (rest := []) (C := RJ2) (T := TJ2) (N := 3) (n := 1) F hW (k_J2_add g l σ307 (L 2) (L 4) (v 1) (fun t => L (100 + t)) q300_ 9 _ _ (j313) (w308) (by decide) rfl q2846 (by rw [hσ307, hσ301, sset_sset]; exact hWk.elmP.new hn_q300_) (by omega)) (f312) rfl (List.mem_of_getElem? (i := 2) rfl) q964 q967 q969 q72 q971 (by decide +kernel) rfl ⟨⟨Nat.le_of_ble_eq_true rfl, Nat.le_of_ble_eq_true rfl⟩, ⟨(Nat.le_of_ble_eq_true rfl), (Nat.le_of_ble_eq_true rfl)⟩⟩ (Nat.le_of_ble_eq_true rfl) hl.1 rfl dX2_addPipe_86 cX_no (fun r314 σ314 H locs hp314 hW => ?_)
            obtain ⟨rfl, hadd⟩ := hp314
            refine W.eq (g2 := F0 m_ 91 ls (.int (nI 1) :: [])) rfl ?_
            rw [hσ307, hσ301, sset_sset] at hadd
            have hDid := addP hWk hI.1 (of_decide_eq_true hd69) hn_q300_ hb_q300_ hadd (fun a ha => (hW.1.2.2.2 a ha).trans (hW00.1.2.2.2 a ha).symm) (F.cs.2.2.2.2.2.2.2.2 _ (by rw [F.cs.2.1]; simp))
            obtain ⟨L9, hW9, hL0, -, -⟩ := id hDid
            generalize hv9 : va_up (upP v (v 1) i j k 0 0 0 0) 1 (v 1 + 1) = v9 at hW9
            have hv90 : v9 1 = v 1 + 1 := by rw [← hv9, va_up_self]
            have hT9 := hW9.2.2.1
            have hP9 := hW9.2.2.2.1
            obtain ⟨mcT9, nT9, fT9, eT9, bT9, -⟩ := id hT9
            obtain ⟨mcP9, nP9, fP9, eP9, bP9, -⟩ := id hP9
            refine lv_pop F.x F.cd dX2_addPipe_91 rfl ?_
            refine lv_aload_n F.x F.cd dX2_addPipe_92 rfl (lv_at hl 0 rfl) ?_
            refine s_get F hW (ci := 1) (C := RX2) (T := TX2) (N := 6) (v := .ref (L9 2)) ((by rw [← hL0]; exact hW9.1)) rfl in_X2 1 (by decide) q162 (fun _ h9 => h9) rfl dX2_addPipe_93 ?_
            refine s_callF (As := []) (rest := []) (C := RJ2) (T := TJ2) (N := 3) (n := 0) F hW (k_J2_size g l σ314 _ _ _ _ hP9) (eP9) rfl (List.mem_of_getElem? (i := 0) rfl) q317 q272 q274 q72 q276 (by decide +kernel) rfl ⟨⟨Nat.le_of_ble_eq_true rfl, Nat.le_of_ble_eq_true rfl⟩, ⟨(Nat.le_of_ble_eq_true rfl), (Nat.le_of_ble_eq_true rfl)⟩⟩ (Nat.le_of_ble_eq_true rfl) hl.1 rfl dX2_addPipe_96 cX_no (fun r315 σ315 H locs hp315 hW => ?_)
            obtain ⟨rfl, hs315⟩ := hp315
            rw [hs315] at hW
            refine W.eq (g2 := F0 m_ 101 ls (.int (nI (v9 1)) :: [])) rfl ?_
            refine lv_iconst (v := (nI 1)) F.x F.cd dX2_addPipe_101 (by decide) ?_
            refine a_isub (v := (nI (v 1))) F (by rw [hv90]; exact pk_sub (by omega)) dX2_addPipe_102 ?_
            subst hQ
            exact s_reti (v := (nI (v 1))) F hW rfl (⟨_, _, by rw [pipeR, if_pos hd23, if_pos hd45, if_pos (of_decide_eq_true hd69), cl_nI (by omega), cl_nI (by omega), cl_nI (by omega)], rfl, hDid⟩) ⟨(Nat.le_of_ble_eq_true rfl), (Nat.le_of_ble_eq_true rfl)⟩ dX2_addPipe_103
          · refine lv_iconst (v := (nI 1)) F.x F.cd dX2_addPipe_62 (by decide) ?_
            refine lv_goto (tgt := 67) F.x F.cd dX2_addPipe_63 (by decide) ?_
            refine W.eq (g2 := F0 m_ 67 ls (.int (bI (decide (v 1 < 12))) :: [])) (by rw [show decide (v 1 < 12) = true by simp; omega]; rfl) ?_
            refine s_ldcS F q1239 dX2_addPipe_67 ?_
            refine s_callSN (As := [.int (bI (decide (v 1 < 12))), .ref (gS g "FilterWaterworks$Works" 70)]) (rest := []) (n := 2) F hW (k_X1_demand g l σ (decide (v 1 < 12)) (gS g "FilterWaterworks$Works" 70) "state" ⟨"FilterWaterworks$Works", 70, q1239, rfl⟩) q1210 q1211 q68 q1212 (by decide +kernel) rfl ⟨⟨Nat.le_of_ble_eq_true rfl, Nat.le_of_ble_eq_true rfl⟩, ⟨(Nat.le_of_ble_eq_true rfl), (Nat.le_of_ble_eq_true rfl)⟩⟩ (Nat.le_of_ble_eq_true rfl) hl.1 rfl dX2_addPipe_69 (by subst hQ; exact cX_out F ⟨(Nat.le_of_ble_eq_true rfl), (Nat.le_of_ble_eq_true rfl)⟩ (fun q9 E9 σ9 hp9 => ⟨"state", by rw [pipeR, if_pos hd23, if_pos hd45, if_neg (of_decide_eq_false hp9.1)], hp9.2⟩)) (fun r316 σ316 H locs hp316 hW => ?_)
            obtain ⟨rfl, hs316, hd69⟩ := hp316
            rw [hs316] at hW
            refine W.eq (g2 := F0 m_ 72 ls ([])) rfl ?_
            have h1a := (Bool.and_eq_true _ _ ▸ hd23 : _ ∧ _)
            have h2a := (Bool.and_eq_true _ _ ▸ hd45 : _ ∧ _)
            obtain ⟨i, hi, rfl⟩ := (inN_iff (show v 0 < 2 ^ 30 by omega)).mp h1a.1
            obtain ⟨j, hj, rfl⟩ := (inN_iff (show v 0 < 2 ^ 30 by omega)).mp h1a.2
            obtain ⟨k, hk1, hk2, rfl⟩ := (btw_iff (by decide) (by decide)).mp h2a.2
            refine lv_aload_n F.x F.cd dX2_addPipe_72 rfl (lv_at hl 0 rfl) ?_
            refine s_get F hW (ci := 1) (C := RX2) (T := TX2) (N := 6) (v := .ref (L 2)) (hWk.1) rfl in_X2 1 (by decide) q162 (fun _ h9 => h9) rfl dX2_addPipe_73 ?_
            refine s_new F hW 9 (C := RX5) (T := TX5) (N := 7) (fs := [.int (nI 0), .int (nI 0), .int (nI 0), .int (nI 0), .int (nI 0), .int (nI 0), .int (nI 0)]) rfl in_X5 tyX5_ok q694 q1062 q96 (fun j hj => by rcases (show j = 0 ∨ j = 1 ∨ j = 2 ∨ j = 3 ∨ j = 4 ∨ j = 5 ∨ j = 6 by omega) with rfl | rfl | rfl | rfl | rfl | rfl | rfl <;> rfl) (Nat.le_of_ble_eq_true rfl) (Nat.le_of_ble_eq_true rfl) dX2_addPipe_76 (fun q317_ H hb_q317_ hn_q317_ hW => ?_)
            obtain ⟨σ318, hσ318⟩ : ∃ z, z = sset σ q317_ (.inr (9, [.int (nI 0), .int (nI 0), .int (nI 0), .int (nI 0), .int (nI 0), .int (nI 0), .int (nI 0)])) := ⟨_, rfl⟩
            have hW : Hl g σ318 H locs := by rw [hσ318]; exact hW
            have w318 : σ318 q317_ = some (.inr (9, [.int (nI 0), .int (nI 0), .int (nI 0), .int (nI 0), .int (nI 0), .int (nI 0), .int (nI 0)])) := by rw [hσ318]; exact sset_eq
            have f319 : σ318 (L 0) = some (.inr (1, [.ref (L 1), .ref (L 2), .int (nI (v 2)), .int (nI (v 3)), .int (nI (v 4)), .int (nI (v 5))])) := by rw [hσ318, sset_ne (sto_ne0 hn_q317_ hWk.1)]; exact hWk.1
            have f320 : σ318 (L 1) = some (.inr (2, [.int mcT, .ref (L 3), .int (nI (v 0))])) := by rw [hσ318, sset_ne (sto_ne0 hn_q317_ eT)]; exact eT
            have j321 := IsList.new (e := .inr (9, [.int (nI 0), .int (nI 0), .int (nI 0), .int (nI 0), .int (nI 0), .int (nI 0), .int (nI 0)])) (hT) (hn_q317_)
            rw [← hσ318] at j321
            have f322 : σ318 (L 2) = some (.inr (2, [.int mcP, .ref (L 4), .int (nI (v 1))])) := by rw [hσ318, sset_ne (sto_ne0 hn_q317_ eP)]; exact eP
            have j323 := IsList.new (e := .inr (9, [.int (nI 0), .int (nI 0), .int (nI 0), .int (nI 0), .int (nI 0), .int (nI 0), .int (nI 0)])) (hP) (hn_q317_)
            rw [← hσ318] at j323
            refine lv_dup F.x F.cd dX2_addPipe_79 rfl ?_
            refine lv_iload_n F.x F.cd dX2_addPipe_80 rfl (lv_at hl 1 rfl) ?_
            refine lv_iload_n F.x F.cd dX2_addPipe_81 rfl (lv_at hl 2 rfl) ?_
            refine lv_iload_n F.x F.cd dX2_addPipe_82 rfl (lv_at hl 3 rfl) ?_
            refine s_callI (As := [.int (nI i), .int (nI j), .int (nI k)]) (rest := [.ref q317_, .ref (L 2)]) (n := 3) F hW (k_X5_init g l σ318 q317_ i j k (w318) (hb_q317_)) q1256 q1064 q96 q1065 rfl (by decide +kernel) rfl ⟨⟨Nat.le_of_ble_eq_true rfl, Nat.le_of_ble_eq_true rfl⟩, ⟨(Nat.le_of_ble_eq_true rfl), (Nat.le_of_ble_eq_true rfl)⟩⟩ (Nat.le_of_ble_eq_true rfl) hl.1 rfl dX2_addPipe_83 cX_no (fun r324 σ324 H locs hp324 hW => ?_)
            obtain ⟨rfl, rfl⟩ := hp324
            refine W.eq (g2 := F0 m_ 86 ls (.ref q317_ :: .ref (L 2) :: [])) rfl ?_
            obtain ⟨σ324, hσ324⟩ : ∃ z, z = sset σ318 q317_ (oPipe i j k 0 0 0 0) := ⟨_, rfl⟩
            rw [← hσ324] at hW
            have w325 : σ324 q317_ = some (.inr (9, [.int (nI i), .int (nI j), .int (nI k), .int (nI 0), .int (nI 0), .int (nI 0), .int (nI 0)])) := by rw [hσ324]; exact sset_eq
            have f326 : σ324 (L 0) = some (.inr (1, [.ref (L 1), .ref (L 2), .int (nI (v 2)), .int (nI (v 3)), .int (nI (v 4)), .int (nI (v 5))])) := by rw [hσ324, sset_ne (sto_ne0 hn_q317_ hWk.1)]; exact f319
            have f327 : σ324 (L 1) = some (.inr (2, [.int mcT, .ref (L 3), .int (nI (v 0))])) := by rw [hσ324, sset_ne (sto_ne0 hn_q317_ eT)]; exact f320
            have j328 := IsList.setO (e := .inr (9, [.int (nI i), .int (nI j), .int (nI k), .int (nI 0), .int (nI 0), .int (nI 0), .int (nI 0)])) (j321) (w318) (by decide)
            rw [← hσ324] at j328
            have f329 : σ324 (L 2) = some (.inr (2, [.int mcP, .ref (L 4), .int (nI (v 1))])) := by rw [hσ324, sset_ne (sto_ne0 hn_q317_ eP)]; exact f322
            have j330 := IsList.setO (e := .inr (9, [.int (nI i), .int (nI j), .int (nI k), .int (nI 0), .int (nI 0), .int (nI 0), .int (nI 0)])) (j323) (w318) (by decide)
            rw [← hσ324] at j330
            refine s_callF (As := [.ref q317_]) (rest := []) (C := RJ2) (T := TJ2) (N := 3) (n := 1) F hW (k_J2_add g l σ324 (L 2) (L 4) (v 1) (fun t => L (100 + t)) q317_ 9 _ _ (j330) (w325) (by decide) rfl q2846 (by rw [hσ324, hσ318, sset_sset]; exact hWk.elmP.new hn_q317_) (by omega)) (f329) rfl (List.mem_of_getElem? (i := 2) rfl) q964 q967 q969 q72 q971 (by decide +kernel) rfl ⟨⟨Nat.le_of_ble_eq_true rfl, Nat.le_of_ble_eq_true rfl⟩, ⟨(Nat.le_of_ble_eq_true rfl), (Nat.le_of_ble_eq_true rfl)⟩⟩ (Nat.le_of_ble_eq_true rfl) hl.1 rfl dX2_addPipe_86 cX_no (fun r331 σ331 H locs hp331 hW => ?_)
            obtain ⟨rfl, hadd⟩ := hp331
            refine W.eq (g2 := F0 m_ 91 ls (.int (nI 1) :: [])) rfl ?_
            rw [hσ324, hσ318, sset_sset] at hadd
            have hDid := addP hWk hI.1 (of_decide_eq_true hd69) hn_q317_ hb_q317_ hadd (fun a ha => (hW.1.2.2.2 a ha).trans (hW00.1.2.2.2 a ha).symm) (F.cs.2.2.2.2.2.2.2.2 _ (by rw [F.cs.2.1]; simp))
            obtain ⟨L9, hW9, hL0, -, -⟩ := id hDid
            generalize hv9 : va_up (upP v (v 1) i j k 0 0 0 0) 1 (v 1 + 1) = v9 at hW9
            have hv90 : v9 1 = v 1 + 1 := by rw [← hv9, va_up_self]
            have hT9 := hW9.2.2.1
            have hP9 := hW9.2.2.2.1
            obtain ⟨mcT9, nT9, fT9, eT9, bT9, -⟩ := id hT9
            obtain ⟨mcP9, nP9, fP9, eP9, bP9, -⟩ := id hP9
            refine lv_pop F.x F.cd dX2_addPipe_91 rfl ?_
            refine lv_aload_n F.x F.cd dX2_addPipe_92 rfl (lv_at hl 0 rfl) ?_
            refine s_get F hW (ci := 1) (C := RX2) (T := TX2) (N := 6) (v := .ref (L9 2)) ((by rw [← hL0]; exact hW9.1)) rfl in_X2 1 (by decide) q162 (fun _ h9 => h9) rfl dX2_addPipe_93 ?_
            refine s_callF (As := []) (rest := []) (C := RJ2) (T := TJ2) (N := 3) (n := 0) F hW (k_J2_size g l σ331 _ _ _ _ hP9) (eP9) rfl (List.mem_of_getElem? (i := 0) rfl) q317 q272 q274 q72 q276 (by decide +kernel) rfl ⟨⟨Nat.le_of_ble_eq_true rfl, Nat.le_of_ble_eq_true rfl⟩, ⟨(Nat.le_of_ble_eq_true rfl), (Nat.le_of_ble_eq_true rfl)⟩⟩ (Nat.le_of_ble_eq_true rfl) hl.1 rfl dX2_addPipe_96 cX_no (fun r332 σ332 H locs hp332 hW => ?_)
            obtain ⟨rfl, hs332⟩ := hp332
            rw [hs332] at hW
            refine W.eq (g2 := F0 m_ 101 ls (.int (nI (v9 1)) :: [])) rfl ?_
            refine lv_iconst (v := (nI 1)) F.x F.cd dX2_addPipe_101 (by decide) ?_
            refine a_isub (v := (nI (v 1))) F (by rw [hv90]; exact pk_sub (by omega)) dX2_addPipe_102 ?_
            subst hQ
            exact s_reti (v := (nI (v 1))) F hW rfl (⟨_, _, by rw [pipeR, if_pos hd23, if_pos hd45, if_pos (of_decide_eq_true hd69), cl_nI (by omega), cl_nI (by omega), cl_nI (by omega)], rfl, hDid⟩) ⟨(Nat.le_of_ble_eq_true rfl), (Nat.le_of_ble_eq_true rfl)⟩ dX2_addPipe_103
