/-! ===== Works: connections ===== -/
set_option maxRecDepth 100000
set_option maxHeartbeats 4000000 in
theorem k_X2_areConnected (g : Gh) (l : Launch) (σ : Sto) (L v : Nat → Nat) (a b s : Nat) (c : Int32) (hWk : IsWorks g σ L v) (hI : Inv v) (ha : a < v 0) (hb : b < v 0) (hs : s < 2 ^ 30) : Ct g l yX2_areConnected cX2_areConnected 6 (some .boolean) ({ frames := 11, cells := 2, slots := 12, locals := 256 } : Room) [.ref (L 0), .int (nI a), .int (nI b), .int (nI s), .int c] σ (fun r σ' => r = some (.int (bI (conB v s c a b))) ∧ Ext σ σ') (nox) := by
  refine Ct.body (by decide) (Nat.le_of_ble_eq_true rfl) ?_
  intro p_ e_ s_ m_ args_ below_ meth_ c_ ls H locs Q F hW hl hQ
  have hl : lv_has ls 6 [(0, .ref (L 0)), (1, .int (nI a)), (2, .int (nI b)), (3, .int (nI s)), (4, .int c)] := hl
  have hT := hWk.2.2.1
  have hP := hWk.2.2.2.1
  obtain ⟨mcT, nT, fT, eT, bT, -⟩ := id hT
  obtain ⟨mcP, nP, fP, eP, bP, -⟩ := id hP
  have hv0 := hI.1
  have hv1 := hI.2.1
  refine s_new F hW 12 (C := RX9) (T := TX9) (N := 4) (fs := [.null, .int (nI 0), .int (nI 0), .null]) rfl in_X9 tyX9_ok q295 q296 q107 (fun j hj => by rcases (show j = 0 ∨ j = 1 ∨ j = 2 ∨ j = 3 by omega) with rfl | rfl | rfl | rfl <;> rfl) (Nat.le_of_ble_eq_true rfl) (Nat.le_of_ble_eq_true rfl) dX2_areConnected_0 (fun q1_ H hb_q1_ hn_q1_ hW => ?_)
  obtain ⟨σ2, hσ2⟩ : ∃ z, z = sset σ q1_ (.inr (12, [.null, .int (nI 0), .int (nI 0), .null])) := ⟨_, rfl⟩
  have hW : Hl g σ2 H locs := by rw [hσ2]; exact hW
  have w2 : σ2 q1_ = some (.inr (12, [.null, .int (nI 0), .int (nI 0), .null])) := by rw [hσ2]; exact sset_eq
  have f3 : σ2 (L 0) = some (.inr (1, [.ref (L 1), .ref (L 2), .int (nI (v 2)), .int (nI (v 3)), .int (nI (v 4)), .int (nI (v 5))])) := by rw [hσ2, sset_ne (sto_ne0 hn_q1_ hWk.1)]; exact hWk.1
  have f4 : σ2 (L 1) = some (.inr (2, [.int mcT, .ref (L 3), .int (nI (v 0))])) := by rw [hσ2, sset_ne (sto_ne0 hn_q1_ eT)]; exact eT
  have j5 := IsList.new (e := .inr (12, [.null, .int (nI 0), .int (nI 0), .null])) (hT) (hn_q1_)
  rw [← hσ2] at j5
  have f6 : σ2 (L 2) = some (.inr (2, [.int mcP, .ref (L 4), .int (nI (v 1))])) := by rw [hσ2, sset_ne (sto_ne0 hn_q1_ eP)]; exact eP
  have j7 := IsList.new (e := .inr (12, [.null, .int (nI 0), .int (nI 0), .null])) (hP) (hn_q1_)
  rw [← hσ2] at j7
  refine lv_dup F.x F.cd dX2_areConnected_3 rfl ?_
  refine lv_aload_n F.x F.cd dX2_areConnected_4 rfl (lv_at hl 0 rfl) ?_
  refine lv_iload_n F.x F.cd dX2_areConnected_5 rfl (lv_at hl 3 rfl) ?_
  refine lv_iload F.x F.cd dX2_areConnected_6 (lv_at hl 4 rfl) ?_
  refine s_callI (As := [.ref (L 0), .int (nI s), .int c]) (rest := [.ref q1_]) (n := 3) F hW (k_X9_init g l σ2 q1_ (L 0) s c (w2) (hb_q1_)) q297 q298 q107 q299 rfl (by decide +kernel) rfl ⟨⟨Nat.le_of_ble_eq_true rfl, Nat.le_of_ble_eq_true rfl⟩, ⟨(Nat.le_of_ble_eq_true rfl), (Nat.le_of_ble_eq_true rfl)⟩⟩ (Nat.le_of_ble_eq_true rfl) hl.1 rfl dX2_areConnected_8 cX_no (fun r8 σ8 H locs hp8 hW => ?_)
  obtain ⟨rfl, ar, hna, hba, hwo, hwa, hXw⟩ := hp8
  refine W.eq (g2 := F0 m_ 11 ls (.ref q1_ :: [])) rfl ?_
  have hXt : Ext σ σ8 := fun a ha => by
    have hq9 : a ≠ q1_ := by rintro rfl; exact ha hn_q1_
    rw [hXw a (by rw [hσ2, sset_ne hq9]; exact ha) hq9, hσ2, sset_ne hq9]
  have hat : σ ar = none := by
    by_cases hq9 : ar = q1_
    · rw [hq9]; exact hn_q1_
    · rw [hσ2, sset_ne hq9] at hna; exact hna
  have hWs := hWk.ext hXt
  have hT_s := hWs.2.2.1
  have hP_s := hWs.2.2.2.1
  obtain ⟨mcT_s, nT_s, fT_s, eT_s, bT_s, -⟩ := id hT_s
  obtain ⟨mcP_s, nP_s, fP_s, eP_s, bP_s, -⟩ := id hP_s
  have hv0_s := hI.1
  have hv1_s := hI.2.1
  refine lv_astore (lv' := [(5, .ref q1_), (0, .ref (L 0)), (1, .int (nI a)), (2, .int (nI b)), (3, .int (nI s)), (4, .int c)]) F.x F.cd dX2_areConnected_11 hl (by decide) rfl (fun ls hl => ?_)
  refine lv_aload F.x F.cd dX2_areConnected_13 (lv_at hl 0 rfl) ?_
  refine lv_iload_n F.x F.cd dX2_areConnected_15 rfl (lv_at hl 2 rfl) ?_
  refine s_callV (As := [.int (nI a)]) (rest := []) (C := RX9) (T := TX9) (N := 4) (n := 1) F hW (k_X9_from_8 g l σ8 L v q1_ ar s a c (fun _ => false) hWs hI (hwo) (hwa) hba (by omega) (by omega) (rfl) (unvN_b 8)) (hwo) rfl q318 q319 q320 q107 q321 rfl (by decide +kernel) rfl ⟨⟨Nat.le_of_ble_eq_true rfl, Nat.le_of_ble_eq_true rfl⟩, ⟨(Nat.le_of_ble_eq_true rfl), (Nat.le_of_ble_eq_true rfl)⟩⟩ (Nat.le_of_ble_eq_true rfl) hl.1 rfl dX2_areConnected_16 cX_no (fun r9 σ9 H locs hp9 hW => ?_)
  obtain ⟨rfl, B9, hσ9, hP9⟩ := hp9
  refine W.eq (g2 := F0 m_ 19 ls ([])) rfl ?_
  have hwo9 : σ9 q1_ = some (.inr (12, [.ref ar, .int (nI s), .int c, .ref (L 0)])) := by rw [hσ9, sset_ne (sto_ne hwa hwo (by simp))]; exact hwo
  have hwa9 : σ9 ar = some (eI g 2 8 (fun j => bI (B9 j))) := by rw [hσ9, sset_eq]
  refine lv_aload F.x F.cd dX2_areConnected_19 (lv_at hl 0 rfl) ?_
  refine s_getN F hW (ci := 12) (C := RX9) (T := TX9) (N := 4) (v := .ref ar) (hwo9) rfl in_X9 0 (by decide) q302 (fun _ h9 => h9) rfl dX2_areConnected_21 ?_
  refine lv_iload_n F.x F.cd dX2_areConnected_24 rfl (lv_at hl 3 rfl) ?_
  refine n_zald (i := b) (n := 8) (f := (fun x9 => bI (B9 x9))) (x := (bI (B9 b))) F hW (hwa9) (Nat.lt_of_lt_of_le hb hI.1) (by omega) (rfl) dX2_areConnected_25 ?_
  subst hQ
  exact s_reti (v := (bI (B9 b))) F hW (nar_bI _) (⟨by rw [hP9.con hI ha], by rw [hσ9]; exact hXt.set hat⟩) ⟨(Nat.le_of_ble_eq_true rfl), (Nat.le_of_ble_eq_true rfl)⟩ dX2_areConnected_26
set_option maxHeartbeats 4000000 in
theorem k_X2_areConnected_2 (g : Gh) (l : Launch) (σ : Sto) (L v : Nat → Nat) (a b : Nat) (hWk : IsWorks g σ L v) (hI : Inv v) (ha : a < v 0) (hb : b < v 0) : Ct g l yX2_areConnected_2 cX2_areConnected_2 3 (some .boolean) ({ frames := 12, cells := 2, slots := 12, locals := 281 } : Room) [.ref (L 0), .int (nI a), .int (nI b)] σ (fun r σ' => r = some (.int (bI (conB v 1 (-1) a b))) ∧ Ext σ σ') (nox) := by
  refine Ct.body (by decide) (Nat.le_of_ble_eq_true rfl) ?_
  intro p_ e_ s_ m_ args_ below_ meth_ c_ ls H locs Q F hW hl hQ
  have hl : lv_has ls 3 [(0, .ref (L 0)), (1, .int (nI a)), (2, .int (nI b))] := hl
  have hT := hWk.2.2.1
  have hP := hWk.2.2.2.1
  obtain ⟨mcT, nT, fT, eT, bT, -⟩ := id hT
  obtain ⟨mcP, nP, fP, eP, bP, -⟩ := id hP
  have hv0 := hI.1
  have hv1 := hI.2.1
  refine lv_aload_n F.x F.cd dX2_areConnected_2_0 rfl (lv_at hl 0 rfl) ?_
  refine lv_iload_n F.x F.cd dX2_areConnected_2_1 rfl (lv_at hl 1 rfl) ?_
  refine lv_iload_n F.x F.cd dX2_areConnected_2_2 rfl (lv_at hl 2 rfl) ?_
  refine lv_iconst (v := (nI 1)) F.x F.cd dX2_areConnected_2_3 (by decide) ?_
  refine lv_iconst (v := (-1 : Int32)) F.x F.cd dX2_areConnected_2_4 (by decide) ?_
  refine s_callV (As := [.int (nI a), .int (nI b), .int (nI 1), .int (-1 : Int32)]) (rest := []) (C := RX2) (T := TX2) (N := 6) (n := 4) F hW (k_X2_areConnected g l σ L v a b 1 (-1 : Int32) hWk hI (by omega) (by omega) (by omega)) (hWk.1) rfl q762 q764 qs5 q69 q765 rfl (by decide +kernel) rfl ⟨⟨Nat.le_of_ble_eq_true rfl, Nat.le_of_ble_eq_true rfl⟩, ⟨(Nat.le_of_ble_eq_true rfl), (Nat.le_of_ble_eq_true rfl)⟩⟩ (Nat.le_of_ble_eq_true rfl) hl.1 rfl dX2_areConnected_2_5 cX_no (fun r1 σ1 H locs hp1 hW => ?_)
  obtain ⟨rfl, hE1⟩ := hp1
  refine W.eq (g2 := F0 m_ 8 ls (.int (bI (conB v 1 (-1 : Int32) a b)) :: [])) rfl ?_
  have hWk1 := hWk.ext hE1
  have hXt1 := Ext.trans (Ext.refl) hE1
  have hT_1 := hWk1.2.2.1
  have hP_1 := hWk1.2.2.2.1
  obtain ⟨mcT_1, nT_1, fT_1, eT_1, bT_1, -⟩ := id hT_1
  obtain ⟨mcP_1, nP_1, fP_1, eP_1, bP_1, -⟩ := id hP_1
  have hv0_1 := hI.1
  have hv1_1 := hI.2.1
  subst hQ
  exact s_reti (v := (bI (conB v 1 (-1 : Int32) a b))) F hW (nar_bI _) (⟨rfl, hXt1⟩) ⟨(Nat.le_of_ble_eq_true rfl), (Nat.le_of_ble_eq_true rfl)⟩ dX2_areConnected_2_8
set_option maxHeartbeats 4000000 in
theorem k_X2_isBridge (g : Gh) (l : Launch) (σ : Sto) (L v : Nat → Nat) (q : Nat) (hWk : IsWorks g σ L v) (hI : Inv v) (hq : q < v 1) : Ct g l yX2_isBridge cX2_isBridge 3 (some .boolean) ({ frames := 12, cells := 2, slots := 12, locals := 281 } : Room) [.ref (L 0), .int (nI q)] σ (fun r σ' => r = some (.int (bI (brB v q))) ∧ Ext σ σ') (nox) := by
  refine Ct.body (by decide) (Nat.le_of_ble_eq_true rfl) ?_
  intro p_ e_ s_ m_ args_ below_ meth_ c_ ls H locs Q F hW hl hQ
  have hl : lv_has ls 3 [(0, .ref (L 0)), (1, .int (nI q))] := hl
  have hT := hWk.2.2.1
  have hP := hWk.2.2.2.1
  obtain ⟨mcT, nT, fT, eT, bT, -⟩ := id hT
  obtain ⟨mcP, nP, fP, eP, bP, -⟩ := id hP
  have hv0 := hI.1
  have hv1 := hI.2.1
  obtain ⟨hqa, hqb, hqab, hqm, hqv, hqr, hqd⟩ := hI.pp hq
  refine lv_aload_n F.x F.cd dX2_isBridge_0 rfl (lv_at hl 0 rfl) ?_
  refine s_get F hW (ci := 1) (C := RX2) (T := TX2) (N := 6) (v := .ref (L 2)) (hWk.1) rfl in_X2 1 (by decide) q162 (fun _ h9 => h9) rfl dX2_isBridge_1 ?_
  refine lv_iload_n F.x F.cd dX2_isBridge_4 rfl (lv_at hl 1 rfl) ?_
  refine s_callF (As := [.int (nI q)]) (rest := []) (C := RJ2) (T := TJ2) (N := 3) (n := 1) F hW (k_J2_get g l σ _ _ _ _ q hP (by omega)) (eP) rfl (List.mem_of_getElem? (i := 1) rfl) q693 q328 q330 q72 q332 (by decide +kernel) rfl ⟨⟨Nat.le_of_ble_eq_true rfl, Nat.le_of_ble_eq_true rfl⟩, ⟨(Nat.le_of_ble_eq_true rfl), (Nat.le_of_ble_eq_true rfl)⟩⟩ (Nat.le_of_ble_eq_true rfl) hl.1 rfl dX2_isBridge_5 cX_no (fun r1 σ1 H locs hp1 hW => ?_)
  obtain ⟨rfl, hs1⟩ := hp1
  rw [hs1] at hW
  refine W.eq (g2 := F0 m_ 10 ls (.ref (L (100 + q)) :: [])) rfl ?_
  refine s_cast_ F hW (C := RX5) (T := TX5) (N := 7) ((hWk.2.2.2.2.2.1 q (by omega)).1) rfl q694 dX2_isBridge_10 ?_
  refine lv_astore_n (lv' := [(2, .ref (L (100 + q))), (0, .ref (L 0)), (1, .int (nI q))]) F.x F.cd dX2_isBridge_13 rfl hl (by decide) rfl (fun ls hl => ?_)
  refine lv_aload_n F.x F.cd dX2_isBridge_14 rfl (lv_at hl 0 rfl) ?_
  refine s_callV (As := []) (rest := []) (C := RX5) (T := TX5) (N := 7) (n := 0) F hW (k_X5_isOpen g l σ (L (100 + q)) (pA v q) (pB v q) (pM v q) (pV v q) (pR v q) (pD v q) (pL v q) ((hWk.2.2.2.2.2.1 q (by omega)).1) (by omega) (by omega)) ((hWk.2.2.2.2.2.1 q (by omega)).1) rfl q698 q672 q673 q96 q674 rfl (by decide +kernel) rfl ⟨⟨Nat.le_of_ble_eq_true rfl, Nat.le_of_ble_eq_true rfl⟩, ⟨(Nat.le_of_ble_eq_true rfl), (Nat.le_of_ble_eq_true rfl)⟩⟩ (Nat.le_of_ble_eq_true rfl) hl.1 rfl dX2_isBridge_15 cX_no (fun r2 σ2 H locs hp2 hW => ?_)
  obtain ⟨rfl, hs2⟩ := hp2
  rw [hs2] at hW
  refine W.eq (g2 := F0 m_ 18 ls (.int (bI (opn (pV v q) (pD v q))) :: [])) rfl ?_
  refine b_if_eq (b := (opn (pV v q) (pD v q))) (tgt := 42) F dX2_isBridge_18 (by decide) (fun c_18 => ?_) (fun c_18 => ?_)
  · refine lv_iconst (v := (nI 0)) F.x F.cd dX2_isBridge_42 (by decide) ?_
    subst hQ
    exact s_reti (v := (nI 0)) F hW (by decide) (⟨by rw [show brB v q = false by simp [brB, c_18]]; rfl, Ext.refl⟩) ⟨(Nat.le_of_ble_eq_true rfl), (Nat.le_of_ble_eq_true rfl)⟩ dX2_isBridge_43
  · refine lv_aload_n F.x F.cd dX2_isBridge_21 rfl (lv_at hl 1 rfl) ?_
    refine lv_aload_n F.x F.cd dX2_isBridge_22 rfl (lv_at hl 0 rfl) ?_
    refine s_getN F hW (ci := 9) (C := RX5) (T := TX5) (N := 7) (v := .int (nI (pA v q))) ((hWk.2.2.2.2.2.1 q (by omega)).1) rfl in_X5 0 (by decide) q1069 (fun _ h9 => h9) rfl dX2_isBridge_23 ?_
    refine lv_aload_n F.x F.cd dX2_isBridge_26 rfl (lv_at hl 0 rfl) ?_
    refine s_getN F hW (ci := 9) (C := RX5) (T := TX5) (N := 7) (v := .int (nI (pB v q))) ((hWk.2.2.2.2.2.1 q (by omega)).1) rfl in_X5 1 (by decide) q1073 (fun _ h9 => h9) rfl dX2_isBridge_27 ?_
    refine lv_iconst (v := (nI 1)) F.x F.cd dX2_isBridge_30 (by decide) ?_
    refine lv_iload_n F.x F.cd dX2_isBridge_31 rfl (lv_at hl 2 rfl) ?_
    refine s_callV (As := [.int (nI (pA v q)), .int (nI (pB v q)), .int (nI 1), .int (nI q)]) (rest := []) (C := RX2) (T := TX2) (N := 6) (n := 4) F hW (k_X2_areConnected g l σ L v (pA v q) (pB v q) 1 (nI q) hWk hI (by omega) (by omega) (by omega)) (hWk.1) rfl q762 q764 qs5 q69 q765 rfl (by decide +kernel) rfl ⟨⟨Nat.le_of_ble_eq_true rfl, Nat.le_of_ble_eq_true rfl⟩, ⟨(Nat.le_of_ble_eq_true rfl), (Nat.le_of_ble_eq_true rfl)⟩⟩ (Nat.le_of_ble_eq_true rfl) hl.1 rfl dX2_isBridge_32 cX_no (fun r3 σ3 H locs hp3 hW => ?_)
    obtain ⟨rfl, hE3⟩ := hp3
    refine W.eq (g2 := F0 m_ 35 ls (.int (bI (conB v 1 (nI q) (pA v q) (pB v q))) :: [])) rfl ?_
    have hWk3 := hWk.ext hE3
    have hXt3 := Ext.trans (Ext.refl) hE3
    have hT_3 := hWk3.2.2.1
    have hP_3 := hWk3.2.2.2.1
    obtain ⟨mcT_3, nT_3, fT_3, eT_3, bT_3, -⟩ := id hT_3
    obtain ⟨mcP_3, nP_3, fP_3, eP_3, bP_3, -⟩ := id hP_3
    have hv0_3 := hI.1
    have hv1_3 := hI.2.1
    refine b_if_ne (b := (conB v 1 (nI q) (pA v q) (pB v q))) (tgt := 42) F dX2_isBridge_35 (by decide) (fun c_35 => ?_) (fun c_35 => ?_)
    · refine lv_iconst (v := (nI 0)) F.x F.cd dX2_isBridge_42 (by decide) ?_
      subst hQ
      exact s_reti (v := (nI 0)) F hW (by decide) (⟨by rw [show brB v q = false by simp [brB, c_18, c_35]]; rfl, hXt3⟩) ⟨(Nat.le_of_ble_eq_true rfl), (Nat.le_of_ble_eq_true rfl)⟩ dX2_isBridge_43
    · refine lv_iconst (v := (nI 1)) F.x F.cd dX2_isBridge_38 (by decide) ?_
      refine lv_goto (tgt := 43) F.x F.cd dX2_isBridge_39 (by decide) ?_
      subst hQ
      exact s_reti (v := (nI 1)) F hW (by decide) (⟨by rw [show brB v q = true by simp [brB, c_18, c_35]]; rfl, hXt3⟩) ⟨(Nat.le_of_ble_eq_true rfl), (Nat.le_of_ble_eq_true rfl)⟩ dX2_isBridge_43
set_option maxHeartbeats 4000000 in
theorem k_X2_bridgesByLeavingOut (g : Gh) (l : Launch) (σ : Sto) (L v : Nat → Nat) (hWk : IsWorks g σ L v) (hI : Inv v) : Ct g l yX2_bridgesByLeavingOut cX2_bridgesByLeavingOut 3 (some .int) ({ frames := 13, cells := 24, slots := 144, locals := 303 } : Room) [.ref (L 0)] σ (fun r σ' => r = some (.int (nI (brN v (v 1)))) ∧ Ext σ σ') (nox) := by
  refine Ct.body (by decide) (Nat.le_of_ble_eq_true rfl) ?_
  intro p_ e_ s_ m_ args_ below_ meth_ c_ ls H locs Q F hW hl hQ
  have hl : lv_has ls 3 [(0, .ref (L 0))] := hl
  have hT := hWk.2.2.1
  have hP := hWk.2.2.2.1
  obtain ⟨mcT, nT, fT, eT, bT, -⟩ := id hT
  obtain ⟨mcP, nP, fP, eP, bP, -⟩ := id hP
  have hv0 := hI.1
  have hv1 := hI.2.1
  refine lv_iconst (v := (nI 0)) F.x F.cd dX2_bridgesByLeavingOut_0 (by decide) ?_
  refine lv_istore_n (lv' := [(1, .int (nI 0)), (0, .ref (L 0))]) F.x F.cd dX2_bridgesByLeavingOut_1 rfl hl (by decide) rfl (fun ls hl => ?_)
  refine lv_iconst (v := (nI 0)) F.x F.cd dX2_bridgesByLeavingOut_2 (by decide) ?_
  refine lv_istore_n (lv' := [(2, .int (nI 0)), (1, .int (nI 0)), (0, .ref (L 0))]) F.x F.cd dX2_bridgesByLeavingOut_3 rfl hl (by decide) rfl (fun ls hl => ?_)
  have loop4 : ∀ (n : Nat) (k : Nat) (σk : Sto), k + n = v 1 → Ext σ σk → ∀ (H : Heap) (locs : List Loc) (ls : Array Slot), Hl g σk H locs → lv_has ls 3 [(0, .ref (L 0)), (1, .int (nI (brN v k))), (2, .int (nI k))] → W p_ l e_ ({ frames := 13, cells := 24, slots := 144, locals := 303 } : Room) s_ m_ args_ below_ meth_ c_ H locs (0 + 2 * k) (0 + 12 * k) Q (F0 m_ 4 ls ([])) := by
    intro n
    induction n with
    | zero =>
      intro k σk hkn hXk H locs ls hW hl
      have hWn := hWk.ext hXk
      have hT_k := hWn.2.2.1
      have hP_k := hWn.2.2.2.1
      obtain ⟨mcT_k, nT_k, fT_k, eT_k, bT_k, -⟩ := id hT_k
      obtain ⟨mcP_k, nP_k, fP_k, eP_k, bP_k, -⟩ := id hP_k
      have hv0_k := hI.1
      have hv1_k := hI.2.1
      refine W.widen (k := 24) (n := 144) (by omega) (by omega) ?_
      refine lv_iload_n F.x F.cd dX2_bridgesByLeavingOut_4 rfl (lv_at hl 2 rfl) ?_
      refine lv_aload_n F.x F.cd dX2_bridgesByLeavingOut_5 rfl (lv_at hl 0 rfl) ?_
      refine s_get F hW (ci := 1) (C := RX2) (T := TX2) (N := 6) (v := .ref (L 2)) (hWn.1) rfl in_X2 1 (by decide) q162 (fun _ h9 => h9) rfl dX2_bridgesByLeavingOut_6 ?_
      refine s_callF (As := []) (rest := [.int (nI k)]) (C := RJ2) (T := TJ2) (N := 3) (n := 0) F hW (k_J2_size g l σk _ _ _ _ hP_k) (eP_k) rfl (List.mem_of_getElem? (i := 0) rfl) q317 q272 q274 q72 q276 (by decide +kernel) rfl ⟨⟨Nat.le_of_ble_eq_true rfl, Nat.le_of_ble_eq_true rfl⟩, ⟨(Nat.le_of_ble_eq_true rfl), (Nat.le_of_ble_eq_true rfl)⟩⟩ (Nat.le_of_ble_eq_true rfl) hl.1 rfl dX2_bridgesByLeavingOut_9 cX_no (fun r1 σ1 H locs hp1 hW => ?_)
      obtain ⟨rfl, hs1⟩ := hp1
      rw [hs1] at hW
      refine W.eq (g2 := F0 m_ 14 ls (.int (nI (v 1)) :: .int (nI k) :: [])) rfl ?_
      refine n_icmp_ge (a := k) (b := v 1) (tgt := 39) F (by omega) (by omega) dX2_bridgesByLeavingOut_14 (by decide) (fun c_14 => ?_) (fun c_14 => ?_)
      · refine lv_iload_n F.x F.cd dX2_bridgesByLeavingOut_39 rfl (lv_at hl 1 rfl) ?_
        subst hQ
        exact s_reti (v := (nI (brN v k))) F hW rfl (⟨by rw [show k = v 1 by omega], hXk⟩) ⟨(Nat.le_of_ble_eq_true rfl), (Nat.le_of_ble_eq_true rfl)⟩ dX2_bridgesByLeavingOut_40
      · exact absurd c_14 (by omega)
    | succ n ih4 =>
      intro k σk hkn hXk H locs ls hW hl
      have hWn := hWk.ext hXk
      have hT_k := hWn.2.2.1
      have hP_k := hWn.2.2.2.1
      obtain ⟨mcT_k, nT_k, fT_k, eT_k, bT_k, -⟩ := id hT_k
      obtain ⟨mcP_k, nP_k, fP_k, eP_k, bP_k, -⟩ := id hP_k
      have hv0_k := hI.1
      have hv1_k := hI.2.1
      refine lv_iload_n F.x F.cd dX2_bridgesByLeavingOut_4 rfl (lv_at hl 2 rfl) ?_
      refine lv_aload_n F.x F.cd dX2_bridgesByLeavingOut_5 rfl (lv_at hl 0 rfl) ?_
      refine s_get F hW (ci := 1) (C := RX2) (T := TX2) (N := 6) (v := .ref (L 2)) (hWn.1) rfl in_X2 1 (by decide) q162 (fun _ h9 => h9) rfl dX2_bridgesByLeavingOut_6 ?_
      refine s_callF (As := []) (rest := [.int (nI k)]) (C := RJ2) (T := TJ2) (N := 3) (n := 0) F hW (k_J2_size g l σk _ _ _ _ hP_k) (eP_k) rfl (List.mem_of_getElem? (i := 0) rfl) q317 q272 q274 q72 q276 (by decide +kernel) rfl ⟨⟨Nat.le_of_ble_eq_true rfl, Nat.le_of_ble_eq_true rfl⟩, ⟨(by show (0 + 2 * k) + 0 ≤ 24; omega), (by show (0 + 12 * k) + 0 ≤ 144; omega)⟩⟩ (Nat.le_of_ble_eq_true rfl) hl.1 rfl dX2_bridgesByLeavingOut_9 cX_no (fun r2 σ2 H locs hp2 hW => ?_)
      obtain ⟨rfl, hs2⟩ := hp2
      rw [hs2] at hW
      refine W.eq (g2 := F0 m_ 14 ls (.int (nI (v 1)) :: .int (nI k) :: [])) rfl ?_
      refine n_icmp_ge (a := k) (b := v 1) (tgt := 39) F (by omega) (by omega) dX2_bridgesByLeavingOut_14 (by decide) (fun c_14 => ?_) (fun c_14 => ?_)
      · exact absurd c_14 (by omega)
      · refine lv_iload_n F.x F.cd dX2_bridgesByLeavingOut_17 rfl (lv_at hl 1 rfl) ?_
        refine lv_aload_n F.x F.cd dX2_bridgesByLeavingOut_18 rfl (lv_at hl 0 rfl) ?_
        refine lv_iload_n F.x F.cd dX2_bridgesByLeavingOut_19 rfl (lv_at hl 2 rfl) ?_
        refine s_callV (As := [.int (nI k)]) (rest := [.int (nI (brN v k))]) (C := RX2) (T := TX2) (N := 6) (n := 1) F hW (k_X2_isBridge g l σk L v k hWn hI (by omega)) (hWn.1) rfl q758 q759 q760 q69 q761 rfl (by decide +kernel) rfl ⟨⟨Nat.le_of_ble_eq_true rfl, Nat.le_of_ble_eq_true rfl⟩, ⟨(by show (0 + 2 * k + 0) + 2 ≤ 24; omega), (by show (0 + 12 * k + 0) + 12 ≤ 144; omega)⟩⟩ (Nat.le_of_ble_eq_true rfl) hl.1 rfl dX2_bridgesByLeavingOut_20 cX_no (fun r3 σ3 H locs hp3 hW => ?_)
        obtain ⟨rfl, hE3⟩ := hp3
        refine W.eq (g2 := F0 m_ 23 ls (.int (bI (brB v k)) :: .int (nI (brN v k)) :: [])) rfl ?_
        have hWk3 := hWn.ext hE3
        have hXt3 := Ext.trans (hXk) hE3
        have hT_3 := hWk3.2.2.1
        have hP_3 := hWk3.2.2.2.1
        obtain ⟨mcT_3, nT_3, fT_3, eT_3, bT_3, -⟩ := id hT_3
        obtain ⟨mcP_3, nP_3, fP_3, eP_3, bP_3, -⟩ := id hP_3
        have hv0_3 := hI.1
        have hv1_3 := hI.2.1
        refine b_if_eq (b := (brB v k)) (tgt := 30) F dX2_bridgesByLeavingOut_23 (by decide) (fun c_23 => ?_) (fun c_23 => ?_)
        · refine lv_iconst (v := (nI 0)) F.x F.cd dX2_bridgesByLeavingOut_30 (by decide) ?_
          refine W.eq (g2 := F0 m_ 31 ls (.int (nI (if brB v k = true then 1 else 0)) :: .int (nI (brN v k)) :: [])) (by rw [if_neg (by rw [c_23]; decide)]) ?_
          refine a_iadd (v := (nI (brN v k + (if brB v k = true then 1 else 0)))) F (nI_add _ _) dX2_bridgesByLeavingOut_31 ?_
          refine lv_istore_n (lv' := [(1, .int (nI (brN v k + (if brB v k = true then 1 else 0)))), (0, .ref (L 0)), (2, .int (nI k))]) F.x F.cd dX2_bridgesByLeavingOut_32 rfl hl (by decide) rfl (fun ls hl => ?_)
          refine lv_iinc (k := 2) (v := (nI (k + 1))) (lv' := [(2, .int (nI (k + 1))), (1, .int (nI (brN v k + (if brB v k = true then 1 else 0)))), (0, .ref (L 0))]) F.x F.cd dX2_bridgesByLeavingOut_33 hl rfl (inc_nI k 1) (by decide) rfl (fun ls hl => ?_)
          refine lv_goto (tgt := 4) F.x F.cd dX2_bridgesByLeavingOut_36 (by decide) ?_
          refine W.widen (k := 0 + 2 * (k + 1)) (n := 0 + 12 * (k + 1)) (by show (0 + 2 * k + 0 + 2) ≤ _; omega) (by show (0 + 12 * k + 0 + 12) ≤ _; omega) ?_
          exact ih4 (k + 1) σ3 (by omega) (hXt3) H locs ls hW (lv_sub hl [2, 1, 0] rfl)
        · refine lv_iconst (v := (nI 1)) F.x F.cd dX2_bridgesByLeavingOut_26 (by decide) ?_
          refine lv_goto (tgt := 31) F.x F.cd dX2_bridgesByLeavingOut_27 (by decide) ?_
          refine W.eq (g2 := F0 m_ 31 ls (.int (nI (if brB v k = true then 1 else 0)) :: .int (nI (brN v k)) :: [])) (by rw [if_pos (by rw [c_23])]) ?_
          refine a_iadd (v := (nI (brN v k + (if brB v k = true then 1 else 0)))) F (nI_add _ _) dX2_bridgesByLeavingOut_31 ?_
          refine lv_istore_n (lv' := [(1, .int (nI (brN v k + (if brB v k = true then 1 else 0)))), (0, .ref (L 0)), (2, .int (nI k))]) F.x F.cd dX2_bridgesByLeavingOut_32 rfl hl (by decide) rfl (fun ls hl => ?_)
          refine lv_iinc (k := 2) (v := (nI (k + 1))) (lv' := [(2, .int (nI (k + 1))), (1, .int (nI (brN v k + (if brB v k = true then 1 else 0)))), (0, .ref (L 0))]) F.x F.cd dX2_bridgesByLeavingOut_33 hl rfl (inc_nI k 1) (by decide) rfl (fun ls hl => ?_)
          refine lv_goto (tgt := 4) F.x F.cd dX2_bridgesByLeavingOut_36 (by decide) ?_
          refine W.widen (k := 0 + 2 * (k + 1)) (n := 0 + 12 * (k + 1)) (by show (0 + 2 * k + 0 + 2) ≤ _; omega) (by show (0 + 12 * k + 0 + 12) ≤ _; omega) ?_
          exact ih4 (k + 1) σ3 (by omega) (hXt3) H locs ls hW (lv_sub hl [2, 1, 0] rfl)
  exact loop4 (v 1) 0 _ (by omega) (Ext.refl) H locs ls hW (lv_sub hl [2, 1, 0] rfl)
set_option maxHeartbeats 4000000 in
theorem k_X2_groups (g : Gh) (l : Launch) (σ : Sto) (L v : Nat → Nat) (hWk : IsWorks g σ L v) (hI : Inv v) : Ct g l yX2_groups cX2_groups 4 (some .int) ({ frames := 11, cells := 2, slots := 12, locals := 256 } : Room) [.ref (L 0)] σ (fun r σ' => r = some (.int (nI (grN v (v 0)))) ∧ Ext σ σ') (nox) := by
  refine Ct.body (by decide) (Nat.le_of_ble_eq_true rfl) ?_
  intro p_ e_ s_ m_ args_ below_ meth_ c_ ls H locs Q F hW hl hQ
  have hl : lv_has ls 4 [(0, .ref (L 0))] := hl
  have hT := hWk.2.2.1
  have hP := hWk.2.2.2.1
  obtain ⟨mcT, nT, fT, eT, bT, -⟩ := id hT
  obtain ⟨mcP, nP, fP, eP, bP, -⟩ := id hP
  have hv0 := hI.1
  have hv1 := hI.2.1
  refine s_new F hW 12 (C := RX9) (T := TX9) (N := 4) (fs := [.null, .int (nI 0), .int (nI 0), .null]) rfl in_X9 tyX9_ok q295 q296 q107 (fun j hj => by rcases (show j = 0 ∨ j = 1 ∨ j = 2 ∨ j = 3 by omega) with rfl | rfl | rfl | rfl <;> rfl) (Nat.le_of_ble_eq_true rfl) (Nat.le_of_ble_eq_true rfl) dX2_groups_0 (fun q1_ H hb_q1_ hn_q1_ hW => ?_)
  obtain ⟨σ2, hσ2⟩ : ∃ z, z = sset σ q1_ (.inr (12, [.null, .int (nI 0), .int (nI 0), .null])) := ⟨_, rfl⟩
  have hW : Hl g σ2 H locs := by rw [hσ2]; exact hW
  have w2 : σ2 q1_ = some (.inr (12, [.null, .int (nI 0), .int (nI 0), .null])) := by rw [hσ2]; exact sset_eq
  have f3 : σ2 (L 0) = some (.inr (1, [.ref (L 1), .ref (L 2), .int (nI (v 2)), .int (nI (v 3)), .int (nI (v 4)), .int (nI (v 5))])) := by rw [hσ2, sset_ne (sto_ne0 hn_q1_ hWk.1)]; exact hWk.1
  have f4 : σ2 (L 1) = some (.inr (2, [.int mcT, .ref (L 3), .int (nI (v 0))])) := by rw [hσ2, sset_ne (sto_ne0 hn_q1_ eT)]; exact eT
  have j5 := IsList.new (e := .inr (12, [.null, .int (nI 0), .int (nI 0), .null])) (hT) (hn_q1_)
  rw [← hσ2] at j5
  have f6 : σ2 (L 2) = some (.inr (2, [.int mcP, .ref (L 4), .int (nI (v 1))])) := by rw [hσ2, sset_ne (sto_ne0 hn_q1_ eP)]; exact eP
  have j7 := IsList.new (e := .inr (12, [.null, .int (nI 0), .int (nI 0), .null])) (hP) (hn_q1_)
  rw [← hσ2] at j7
  refine lv_dup F.x F.cd dX2_groups_3 rfl ?_
  refine lv_aload_n F.x F.cd dX2_groups_4 rfl (lv_at hl 0 rfl) ?_
  refine lv_iconst (v := (nI 1)) F.x F.cd dX2_groups_5 (by decide) ?_
  refine lv_iconst (v := (-1 : Int32)) F.x F.cd dX2_groups_6 (by decide) ?_
  refine s_callI (As := [.ref (L 0), .int (nI 1), .int (-1 : Int32)]) (rest := [.ref q1_]) (n := 3) F hW (k_X9_init g l σ2 q1_ (L 0) 1 (-1 : Int32) (w2) (hb_q1_)) q297 q298 q107 q299 rfl (by decide +kernel) rfl ⟨⟨Nat.le_of_ble_eq_true rfl, Nat.le_of_ble_eq_true rfl⟩, ⟨(Nat.le_of_ble_eq_true rfl), (Nat.le_of_ble_eq_true rfl)⟩⟩ (Nat.le_of_ble_eq_true rfl) hl.1 rfl dX2_groups_7 cX_no (fun r8 σ8 H locs hp8 hW => ?_)
  obtain ⟨rfl, ar, hna, hba, hwo, hwa, hXw⟩ := hp8
  refine W.eq (g2 := F0 m_ 10 ls (.ref q1_ :: [])) rfl ?_
  have hXt : Ext σ σ8 := fun a ha => by
    have hq9 : a ≠ q1_ := by rintro rfl; exact ha hn_q1_
    rw [hXw a (by rw [hσ2, sset_ne hq9]; exact ha) hq9, hσ2, sset_ne hq9]
  have hat : σ ar = none := by
    by_cases hq9 : ar = q1_
    · rw [hq9]; exact hn_q1_
    · rw [hσ2, sset_ne hq9] at hna; exact hna
  have hWs := hWk.ext hXt
  have hT_s := hWs.2.2.1
  have hP_s := hWs.2.2.2.1
  obtain ⟨mcT_s, nT_s, fT_s, eT_s, bT_s, -⟩ := id hT_s
  obtain ⟨mcP_s, nP_s, fP_s, eP_s, bP_s, -⟩ := id hP_s
  have hv0_s := hI.1
  have hv1_s := hI.2.1
  refine lv_astore_n (lv' := [(1, .ref q1_), (0, .ref (L 0))]) F.x F.cd dX2_groups_10 rfl hl (by decide) rfl (fun ls hl => ?_)
  refine lv_iconst (v := (nI 0)) F.x F.cd dX2_groups_11 (by decide) ?_
  refine lv_istore_n (lv' := [(2, .int (nI 0)), (1, .ref q1_), (0, .ref (L 0))]) F.x F.cd dX2_groups_12 rfl hl (by decide) rfl (fun ls hl => ?_)
  refine lv_iconst (v := (nI 0)) F.x F.cd dX2_groups_13 (by decide) ?_
  refine lv_istore_n (lv' := [(3, .int (nI 0)), (2, .int (nI 0)), (1, .ref q1_), (0, .ref (L 0))]) F.x F.cd dX2_groups_14 rfl hl (by decide) rfl (fun ls hl => ?_)
  have loop15 : ∀ (n : Nat) (k : Nat) (σk : Sto) (Bk : Nat → Bool), k + n = v 0 → (σk = sset σ8 ar (eI g 2 8 (fun j => bI (Bk j)))) → GI v Bk k → ∀ (H : Heap) (locs : List Loc) (ls : Array Slot), Hl g σk H locs → lv_has ls 4 [(0, .ref (L 0)), (1, .ref q1_), (2, .int (nI (grN v k))), (3, .int (nI k))] → W p_ l e_ ({ frames := 11, cells := 2, slots := 12, locals := 256 } : Room) s_ m_ args_ below_ meth_ c_ H locs 2 12 Q (F0 m_ 15 ls ([])) := by
    intro n
    induction n with
    | zero =>
      intro k σk Bk hkn hσk hGk H locs ls hW hl
      have hWn : IsWorks g σk L v := by rw [hσk]; exact hWs.setI hwa
      have hwk : σk q1_ = some (.inr (12, [.ref ar, .int (nI 1), .int (-1 : Int32), .ref (L 0)])) := by rw [hσk, sset_ne (sto_ne hwa hwo (by simp))]; exact hwo
      have hak : σk ar = some (eI g 2 8 (fun j => bI (Bk j))) := by rw [hσk, sset_eq]
      have hT_k := hWn.2.2.1
      have hP_k := hWn.2.2.2.1
      obtain ⟨mcT_k, nT_k, fT_k, eT_k, bT_k, -⟩ := id hT_k
      obtain ⟨mcP_k, nP_k, fP_k, eP_k, bP_k, -⟩ := id hP_k
      have hv0_k := hI.1
      have hv1_k := hI.2.1
      refine lv_iload_n F.x F.cd dX2_groups_15 rfl (lv_at hl 3 rfl) ?_
      refine lv_aload_n F.x F.cd dX2_groups_16 rfl (lv_at hl 0 rfl) ?_
      refine s_get F hW (ci := 1) (C := RX2) (T := TX2) (N := 6) (v := .ref (L 1)) (hWn.1) rfl in_X2 0 (by decide) q159 (fun _ h9 => h9) rfl dX2_groups_17 ?_
      refine s_callF (As := []) (rest := [.int (nI k)]) (C := RJ2) (T := TJ2) (N := 3) (n := 0) F hW (k_J2_size g l σk _ _ _ _ hT_k) (eT_k) rfl (List.mem_of_getElem? (i := 0) rfl) q317 q272 q274 q72 q276 (by decide +kernel) rfl ⟨⟨Nat.le_of_ble_eq_true rfl, Nat.le_of_ble_eq_true rfl⟩, ⟨(Nat.le_of_ble_eq_true rfl), (Nat.le_of_ble_eq_true rfl)⟩⟩ (Nat.le_of_ble_eq_true rfl) hl.1 rfl dX2_groups_20 cX_no (fun r9 σ9 H locs hp9 hW => ?_)
      obtain ⟨rfl, hs9⟩ := hp9
      rw [hs9] at hW
      refine W.eq (g2 := F0 m_ 25 ls (.int (nI (v 0)) :: .int (nI k) :: [])) rfl ?_
      refine n_icmp_ge (a := k) (b := v 0) (tgt := 51) F (by omega) (by omega) dX2_groups_25 (by decide) (fun c_25 => ?_) (fun c_25 => ?_)
      · refine lv_iload_n F.x F.cd dX2_groups_51 rfl (lv_at hl 2 rfl) ?_
        subst hQ
        exact s_reti (v := (nI (grN v k))) F hW rfl (⟨by rw [show k = v 0 by omega], by rw [hσk]; exact hXt.set hat⟩) ⟨(Nat.le_of_ble_eq_true rfl), (Nat.le_of_ble_eq_true rfl)⟩ dX2_groups_52
      · exact absurd c_25 (by omega)
    | succ n ih15 =>
      intro k σk Bk hkn hσk hGk H locs ls hW hl
      have hWn : IsWorks g σk L v := by rw [hσk]; exact hWs.setI hwa
      have hwk : σk q1_ = some (.inr (12, [.ref ar, .int (nI 1), .int (-1 : Int32), .ref (L 0)])) := by rw [hσk, sset_ne (sto_ne hwa hwo (by simp))]; exact hwo
      have hak : σk ar = some (eI g 2 8 (fun j => bI (Bk j))) := by rw [hσk, sset_eq]
      have hT_k := hWn.2.2.1
      have hP_k := hWn.2.2.2.1
      obtain ⟨mcT_k, nT_k, fT_k, eT_k, bT_k, -⟩ := id hT_k
      obtain ⟨mcP_k, nP_k, fP_k, eP_k, bP_k, -⟩ := id hP_k
      have hv0_k := hI.1
      have hv1_k := hI.2.1
      refine lv_iload_n F.x F.cd dX2_groups_15 rfl (lv_at hl 3 rfl) ?_
      refine lv_aload_n F.x F.cd dX2_groups_16 rfl (lv_at hl 0 rfl) ?_
      refine s_get F hW (ci := 1) (C := RX2) (T := TX2) (N := 6) (v := .ref (L 1)) (hWn.1) rfl in_X2 0 (by decide) q159 (fun _ h9 => h9) rfl dX2_groups_17 ?_
      refine s_callF (As := []) (rest := [.int (nI k)]) (C := RJ2) (T := TJ2) (N := 3) (n := 0) F hW (k_J2_size g l σk _ _ _ _ hT_k) (eT_k) rfl (List.mem_of_getElem? (i := 0) rfl) q317 q272 q274 q72 q276 (by decide +kernel) rfl ⟨⟨Nat.le_of_ble_eq_true rfl, Nat.le_of_ble_eq_true rfl⟩, ⟨(Nat.le_of_ble_eq_true rfl), (Nat.le_of_ble_eq_true rfl)⟩⟩ (Nat.le_of_ble_eq_true rfl) hl.1 rfl dX2_groups_20 cX_no (fun r10 σ10 H locs hp10 hW => ?_)
      obtain ⟨rfl, hs10⟩ := hp10
      rw [hs10] at hW
      refine W.eq (g2 := F0 m_ 25 ls (.int (nI (v 0)) :: .int (nI k) :: [])) rfl ?_
      refine n_icmp_ge (a := k) (b := v 0) (tgt := 51) F (by omega) (by omega) dX2_groups_25 (by decide) (fun c_25 => ?_) (fun c_25 => ?_)
      · exact absurd c_25 (by omega)
      · refine lv_aload_n F.x F.cd dX2_groups_28 rfl (lv_at hl 1 rfl) ?_
        refine s_getN F hW (ci := 12) (C := RX9) (T := TX9) (N := 4) (v := .ref ar) (hwk) rfl in_X9 0 (by decide) q302 (fun _ h9 => h9) rfl dX2_groups_29 ?_
        refine lv_iload_n F.x F.cd dX2_groups_32 rfl (lv_at hl 3 rfl) ?_
        refine n_zald (i := k) (n := 8) (f := (fun x9 => bI (Bk x9))) (x := (bI (Bk k))) F hW (hak) (Nat.lt_of_lt_of_le (by omega) hI.1) (by omega) (rfl) dX2_groups_33 ?_
        refine b_if_ne (b := (Bk k)) (tgt := 45) F dX2_groups_34 (by decide) (fun c_34 => ?_) (fun c_34 => ?_)
        · have hl : lv_has ls 4 [(0, .ref (L 0)), (1, .ref q1_), (2, .int (nI (grN v (k + 1)))), (3, .int (nI k))] := by rw [show grN v (k + 1) = grN v k by rw [grN, ← hGk.seen hI (by omega), c_34]; rfl]; exact hl
          refine lv_iinc (k := 3) (v := (nI (k + 1))) (lv' := [(3, .int (nI (k + 1))), (0, .ref (L 0)), (1, .ref q1_), (2, .int (nI (grN v (k + 1))))]) F.x F.cd dX2_groups_45 hl rfl (inc_nI k 1) (by decide) rfl (fun ls hl => ?_)
          refine lv_goto (tgt := 15) F.x F.cd dX2_groups_48 (by decide) ?_
          exact ih15 (k + 1) σk Bk (by omega) (hσk) (hGk.old c_34) H locs ls hW (lv_sub hl [1, 2, 3, 0] rfl)
        · refine lv_aload_n F.x F.cd dX2_groups_37 rfl (lv_at hl 1 rfl) ?_
          refine lv_iload_n F.x F.cd dX2_groups_38 rfl (lv_at hl 3 rfl) ?_
          refine s_callV (As := [.int (nI k)]) (rest := []) (C := RX9) (T := TX9) (N := 4) (n := 1) F hW (k_X9_from_8 g l σk L v q1_ ar 1 k (-1 : Int32) Bk hWn hI (hwk) (hak) hba (by omega) (by omega) (c_34) (unvN_b 8)) (hwk) rfl q318 q319 q320 q107 q321 rfl (by decide +kernel) rfl ⟨⟨Nat.le_of_ble_eq_true rfl, Nat.le_of_ble_eq_true rfl⟩, ⟨(Nat.le_of_ble_eq_true rfl), (Nat.le_of_ble_eq_true rfl)⟩⟩ (Nat.le_of_ble_eq_true rfl) hl.1 rfl dX2_groups_39 cX_no (fun r11 σ11 H locs hp11 hW => ?_)
          obtain ⟨rfl, B9, hσ9, hP9⟩ := hp11
          refine W.eq (g2 := F0 m_ 42 ls ([])) rfl ?_
          refine lv_iinc (k := 2) (v := (nI (grN v k + 1))) (lv' := [(2, .int (nI (grN v k + 1))), (0, .ref (L 0)), (1, .ref q1_), (3, .int (nI k))]) F.x F.cd dX2_groups_42 hl rfl (inc_nI (grN v k) 1) (by decide) rfl (fun ls hl => ?_)
          have hl : lv_has ls 4 [(2, .int (nI (grN v (k + 1)))), (0, .ref (L 0)), (1, .ref q1_), (3, .int (nI k))] := by rw [show grN v (k + 1) = grN v k + 1 by rw [grN, ← hGk.seen hI (by omega), c_34]; rfl]; exact hl
          refine lv_iinc (k := 3) (v := (nI (k + 1))) (lv' := [(3, .int (nI (k + 1))), (2, .int (nI (grN v (k + 1)))), (0, .ref (L 0)), (1, .ref q1_)]) F.x F.cd dX2_groups_45 hl rfl (inc_nI k 1) (by decide) rfl (fun ls hl => ?_)
          refine lv_goto (tgt := 15) F.x F.cd dX2_groups_48 (by decide) ?_
          exact ih15 (k + 1) σ11 B9 (by omega) (by rw [hσ9, hσk, sset_sset]) (hGk.next hP9) H locs ls hW (lv_sub hl [2, 3, 1, 0] rfl)
  exact loop15 (v 0) 0 _ (fun _ => false) (by omega) ((sset_id hwa).symm) (GI.zero) H locs ls hW (lv_sub hl [3, 2, 1, 0] rfl)
