/-! ===== Works: reading ===== -/
set_option maxRecDepth 100000
set_option maxHeartbeats 4000000 in
theorem k_X1_isBetween (g : Gh) (l : Launch) (σ : Sto) (a b d : Int32)  : Ct g l yX1_isBetween cX1_isBetween 3 (some .boolean) ({ frames := 0, cells := 0, slots := 0, locals := 0 } : Room) [.int a, .int b, .int d] σ (fun r σ' => r = some (.int (bI (btw a b d))) ∧ σ' = σ) (nox) := by
  refine Ct.body (by decide) (Nat.le_of_ble_eq_true rfl) ?_
  intro p_ e_ s_ m_ args_ below_ meth_ c_ ls H locs Q F hW hl hQ
  have hl : lv_has ls 3 [(0, .int a), (1, .int b), (2, .int d)] := hl
  refine lv_iload_n F.x F.cd dX1_isBetween_0 rfl (lv_at hl 0 rfl) ?_
  refine lv_iload_n F.x F.cd dX1_isBetween_1 rfl (lv_at hl 1 rfl) ?_
  refine lv_icmp_lt (x := a) (y := b) (tgt := 14) F.x F.cd dX1_isBetween_2 (by decide) (fun c_2 => ?_) (fun c_2 => ?_)
  · refine lv_iconst (v := (nI 0)) F.x F.cd dX1_isBetween_14 (by decide) ?_
    subst hQ
    exact s_reti (v := (nI 0)) F hW (by decide) (⟨by rw [show btw a b d = false from decide_eq_false (fun h => absurd h.1 (Int32.not_le.mpr c_2))]; rfl, rfl⟩) ⟨(Nat.le_of_ble_eq_true rfl), (Nat.le_of_ble_eq_true rfl)⟩ dX1_isBetween_15
  · refine lv_iload_n F.x F.cd dX1_isBetween_5 rfl (lv_at hl 0 rfl) ?_
    refine lv_iload_n F.x F.cd dX1_isBetween_6 rfl (lv_at hl 2 rfl) ?_
    refine lv_icmp_gt (x := a) (y := d) (tgt := 14) F.x F.cd dX1_isBetween_7 (by decide) (fun c_7 => ?_) (fun c_7 => ?_)
    · refine lv_iconst (v := (nI 0)) F.x F.cd dX1_isBetween_14 (by decide) ?_
      subst hQ
      exact s_reti (v := (nI 0)) F hW (by decide) (⟨by rw [show btw a b d = false from decide_eq_false (fun h => absurd h.2 (Int32.not_le.mpr c_7))]; rfl, rfl⟩) ⟨(Nat.le_of_ble_eq_true rfl), (Nat.le_of_ble_eq_true rfl)⟩ dX1_isBetween_15
    · refine lv_iconst (v := (nI 1)) F.x F.cd dX1_isBetween_10 (by decide) ?_
      refine lv_goto (tgt := 15) F.x F.cd dX1_isBetween_11 (by decide) ?_
      subst hQ
      exact s_reti (v := (nI 1)) F hW (by decide) (⟨by rw [show btw a b d = true from decide_eq_true ⟨Int32.not_lt.mp c_2, Int32.not_lt.mp c_7⟩]; rfl, rfl⟩) ⟨(Nat.le_of_ble_eq_true rfl), (Nat.le_of_ble_eq_true rfl)⟩ dX1_isBetween_15
set_option maxHeartbeats 4000000 in
theorem k_X1_isSet (g : Gh) (l : Launch) (σ : Sto) (a : Int32)  : Ct g l yX1_isSet cX1_isSet 1 (some .boolean) ({ frames := 1, cells := 0, slots := 0, locals := 22 } : Room) [.int a] σ (fun r σ' => r = some (.int (bI (btw a (nI 0) (nI 255)))) ∧ σ' = σ) (nox) := by
  refine Ct.body (by decide) (Nat.le_of_ble_eq_true rfl) ?_
  intro p_ e_ s_ m_ args_ below_ meth_ c_ ls H locs Q F hW hl hQ
  have hl : lv_has ls 1 [(0, .int a)] := hl
  refine lv_iload_n F.x F.cd dX1_isSet_0 rfl (lv_at hl 0 rfl) ?_
  refine lv_iconst (v := (nI 0)) F.x F.cd dX1_isSet_1 (by decide) ?_
  refine lv_sipush (v := (nI 255)) F.x F.cd dX1_isSet_2 (by decide) ?_
  refine s_callS (As := [.int a, .int (nI 0), .int (nI 255)]) (rest := []) (n := 3) F hW (k_X1_isBetween g l σ a (nI 0) (nI 255)) q1255 q1207 q68 q1208 (by decide +kernel) rfl ⟨⟨Nat.le_of_ble_eq_true rfl, Nat.le_of_ble_eq_true rfl⟩, ⟨(Nat.le_of_ble_eq_true rfl), (Nat.le_of_ble_eq_true rfl)⟩⟩ (Nat.le_of_ble_eq_true rfl) hl.1 rfl dX1_isSet_5 cX_no (fun r1 σ1 H locs hp1 hW => ?_)
  obtain ⟨rfl, hs1⟩ := hp1
  rw [hs1] at hW
  refine W.eq (g2 := F0 m_ 8 ls (.int (bI (btw a (nI 0) (nI 255))) :: [])) rfl ?_
  subst hQ
  exact s_reti (v := (bI (btw a (nI 0) (nI 255)))) F hW (nar_bI _) (⟨rfl, rfl⟩) ⟨(Nat.le_of_ble_eq_true rfl), (Nat.le_of_ble_eq_true rfl)⟩ dX1_isSet_8
set_option maxHeartbeats 4000000 in
theorem k_X2_hasTank (g : Gh) (l : Launch) (σ : Sto) (L v : Nat → Nat) (x : Int32) (hWk : IsWorks g σ L v) (hI : Inv v) : Ct g l yX2_hasTank cX2_hasTank 2 (some .boolean) ({ frames := 1, cells := 0, slots := 0, locals := 22 } : Room) [.ref (L 0), .int x] σ (fun r σ' => r = some (.int (bI (inN x (v 0)))) ∧ σ' = σ) (nox) := by
  refine Ct.body (by decide) (Nat.le_of_ble_eq_true rfl) ?_
  intro p_ e_ s_ m_ args_ below_ meth_ c_ ls H locs Q F hW hl hQ
  have hl : lv_has ls 2 [(0, .ref (L 0)), (1, .int x)] := hl
  have hT := hWk.2.2.1
  have hP := hWk.2.2.2.1
  obtain ⟨mcT, nT, fT, eT, bT, -⟩ := id hT
  obtain ⟨mcP, nP, fP, eP, bP, -⟩ := id hP
  have hv0 := hI.1
  have hv1 := hI.2.1
  refine lv_iload_n F.x F.cd dX2_hasTank_0 rfl (lv_at hl 1 rfl) ?_
  refine lv_iconst (v := (nI 0)) F.x F.cd dX2_hasTank_1 (by decide) ?_
  refine lv_aload_n F.x F.cd dX2_hasTank_2 rfl (lv_at hl 0 rfl) ?_
  refine s_get F hW (ci := 1) (C := RX2) (T := TX2) (N := 6) (v := .ref (L 1)) (hWk.1) rfl in_X2 0 (by decide) q159 (fun _ h9 => h9) rfl dX2_hasTank_3 ?_
  refine s_callF (As := []) (rest := [.int (nI 0), .int x]) (C := RJ2) (T := TJ2) (N := 3) (n := 0) F hW (k_J2_size g l σ _ _ _ _ hT) (eT) rfl (List.mem_of_getElem? (i := 0) rfl) q317 q272 q274 q72 q276 (by decide +kernel) rfl ⟨⟨Nat.le_of_ble_eq_true rfl, Nat.le_of_ble_eq_true rfl⟩, ⟨(Nat.le_of_ble_eq_true rfl), (Nat.le_of_ble_eq_true rfl)⟩⟩ (Nat.le_of_ble_eq_true rfl) hl.1 rfl dX2_hasTank_6 cX_no (fun r1 σ1 H locs hp1 hW => ?_)
  obtain ⟨rfl, hs1⟩ := hp1
  rw [hs1] at hW
  refine W.eq (g2 := F0 m_ 11 ls (.int (nI (v 0)) :: .int (nI 0) :: .int x :: [])) rfl ?_
  refine lv_iconst (v := (nI 1)) F.x F.cd dX2_hasTank_11 (by decide) ?_
  refine a_isub (v := ((nI (v 0)) - (nI 1))) F (rfl) dX2_hasTank_12 ?_
  refine s_callSN (As := [.int x, .int (nI 0), .int ((nI (v 0)) - (nI 1))]) (rest := []) (n := 3) F hW (k_X1_isBetween g l σ x (nI 0) ((nI (v 0)) - (nI 1))) q1206 q1207 q68 q1208 (by decide +kernel) rfl ⟨⟨Nat.le_of_ble_eq_true rfl, Nat.le_of_ble_eq_true rfl⟩, ⟨(Nat.le_of_ble_eq_true rfl), (Nat.le_of_ble_eq_true rfl)⟩⟩ (Nat.le_of_ble_eq_true rfl) hl.1 rfl dX2_hasTank_13 cX_no (fun r2 σ2 H locs hp2 hW => ?_)
  obtain ⟨rfl, hs2⟩ := hp2
  rw [hs2] at hW
  refine W.eq (g2 := F0 m_ 16 ls (.int (bI (btw x (nI 0) ((nI (v 0)) - (nI 1)))) :: [])) rfl ?_
  subst hQ
  exact s_reti (v := (bI (btw x (nI 0) ((nI (v 0)) - (nI 1))))) F hW (nar_bI _) (⟨rfl, rfl⟩) ⟨(Nat.le_of_ble_eq_true rfl), (Nat.le_of_ble_eq_true rfl)⟩ dX2_hasTank_16
set_option maxHeartbeats 4000000 in
theorem k_X2_hasPipe (g : Gh) (l : Launch) (σ : Sto) (L v : Nat → Nat) (x : Int32) (hWk : IsWorks g σ L v) (hI : Inv v) : Ct g l yX2_hasPipe cX2_hasPipe 2 (some .boolean) ({ frames := 1, cells := 0, slots := 0, locals := 22 } : Room) [.ref (L 0), .int x] σ (fun r σ' => r = some (.int (bI (inN x (v 1)))) ∧ σ' = σ) (nox) := by
  refine Ct.body (by decide) (Nat.le_of_ble_eq_true rfl) ?_
  intro p_ e_ s_ m_ args_ below_ meth_ c_ ls H locs Q F hW hl hQ
  have hl : lv_has ls 2 [(0, .ref (L 0)), (1, .int x)] := hl
  have hT := hWk.2.2.1
  have hP := hWk.2.2.2.1
  obtain ⟨mcT, nT, fT, eT, bT, -⟩ := id hT
  obtain ⟨mcP, nP, fP, eP, bP, -⟩ := id hP
  have hv0 := hI.1
  have hv1 := hI.2.1
  refine lv_iload_n F.x F.cd dX2_hasPipe_0 rfl (lv_at hl 1 rfl) ?_
  refine lv_iconst (v := (nI 0)) F.x F.cd dX2_hasPipe_1 (by decide) ?_
  refine lv_aload_n F.x F.cd dX2_hasPipe_2 rfl (lv_at hl 0 rfl) ?_
  refine s_get F hW (ci := 1) (C := RX2) (T := TX2) (N := 6) (v := .ref (L 2)) (hWk.1) rfl in_X2 1 (by decide) q162 (fun _ h9 => h9) rfl dX2_hasPipe_3 ?_
  refine s_callF (As := []) (rest := [.int (nI 0), .int x]) (C := RJ2) (T := TJ2) (N := 3) (n := 0) F hW (k_J2_size g l σ _ _ _ _ hP) (eP) rfl (List.mem_of_getElem? (i := 0) rfl) q317 q272 q274 q72 q276 (by decide +kernel) rfl ⟨⟨Nat.le_of_ble_eq_true rfl, Nat.le_of_ble_eq_true rfl⟩, ⟨(Nat.le_of_ble_eq_true rfl), (Nat.le_of_ble_eq_true rfl)⟩⟩ (Nat.le_of_ble_eq_true rfl) hl.1 rfl dX2_hasPipe_6 cX_no (fun r1 σ1 H locs hp1 hW => ?_)
  obtain ⟨rfl, hs1⟩ := hp1
  rw [hs1] at hW
  refine W.eq (g2 := F0 m_ 11 ls (.int (nI (v 1)) :: .int (nI 0) :: .int x :: [])) rfl ?_
  refine lv_iconst (v := (nI 1)) F.x F.cd dX2_hasPipe_11 (by decide) ?_
  refine a_isub (v := ((nI (v 1)) - (nI 1))) F (rfl) dX2_hasPipe_12 ?_
  refine s_callSN (As := [.int x, .int (nI 0), .int ((nI (v 1)) - (nI 1))]) (rest := []) (n := 3) F hW (k_X1_isBetween g l σ x (nI 0) ((nI (v 1)) - (nI 1))) q1206 q1207 q68 q1208 (by decide +kernel) rfl ⟨⟨Nat.le_of_ble_eq_true rfl, Nat.le_of_ble_eq_true rfl⟩, ⟨(Nat.le_of_ble_eq_true rfl), (Nat.le_of_ble_eq_true rfl)⟩⟩ (Nat.le_of_ble_eq_true rfl) hl.1 rfl dX2_hasPipe_13 cX_no (fun r2 σ2 H locs hp2 hW => ?_)
  obtain ⟨rfl, hs2⟩ := hp2
  rw [hs2] at hW
  refine W.eq (g2 := F0 m_ 16 ls (.int (bI (btw x (nI 0) ((nI (v 1)) - (nI 1)))) :: [])) rfl ?_
  subst hQ
  exact s_reti (v := (bI (btw x (nI 0) ((nI (v 1)) - (nI 1))))) F hW (nar_bI _) (⟨rfl, rfl⟩) ⟨(Nat.le_of_ble_eq_true rfl), (Nat.le_of_ble_eq_true rfl)⟩ dX2_hasPipe_16
set_option maxHeartbeats 4000000 in
theorem k_X2_direction (g : Gh) (l : Launch) (σ : Sto) (L v : Nat → Nat) (q : Nat) (hWk : IsWorks g σ L v) (hI : Inv v) (hq : q < v 1) : Ct g l yX2_direction cX2_direction 3 (some (.object "FilterWaterworks$Direction")) ({ frames := 3, cells := 0, slots := 0, locals := 64 } : Room) [.ref (L 0), .ref (L (100 + q))] σ (fun r σ' => r = some (.ref (if tK v (pB v q) < tK v (pA v q) then gA g 4 else gA g 5)) ∧ σ' = σ) (nox) := by
  refine Ct.body (by decide) (Nat.le_of_ble_eq_true rfl) ?_
  intro p_ e_ s_ m_ args_ below_ meth_ c_ ls H locs Q F hW hl hQ
  have hl : lv_has ls 3 [(0, .ref (L 0)), (1, .ref (L (100 + q)))] := hl
  have hT := hWk.2.2.1
  have hP := hWk.2.2.2.1
  obtain ⟨mcT, nT, fT, eT, bT, -⟩ := id hT
  obtain ⟨mcP, nP, fP, eP, bP, -⟩ := id hP
  have hv0 := hI.1
  have hv1 := hI.2.1
  obtain ⟨hqa, hqb, hqab, hqm, hqv, hqr, hqd⟩ := hI.pp hq
  obtain ⟨hac, hac2, hak, hai⟩ := hI.tk hqa
  obtain ⟨hbc, hbc2, hbk, hbi⟩ := hI.tk hqb
  refine lv_aload_n F.x F.cd dX2_direction_0 rfl (lv_at hl 0 rfl) ?_
  refine s_get F hW (ci := 1) (C := RX2) (T := TX2) (N := 6) (v := .ref (L 1)) (hWk.1) rfl in_X2 0 (by decide) q159 (fun _ h9 => h9) rfl dX2_direction_1 ?_
  refine lv_aload_n F.x F.cd dX2_direction_4 rfl (lv_at hl 1 rfl) ?_
  refine s_getN F hW (ci := 9) (C := RX5) (T := TX5) (N := 7) (v := .int (nI (pA v q))) ((hWk.2.2.2.2.2.1 q hq).1) rfl in_X5 0 (by decide) q1069 (fun _ h9 => h9) rfl dX2_direction_5 ?_
  refine s_callF (As := [.int (nI (pA v q))]) (rest := []) (C := RJ2) (T := TJ2) (N := 3) (n := 1) F hW (k_J2_get g l σ _ _ _ _ (pA v q) hT (by omega)) (eT) rfl (List.mem_of_getElem? (i := 1) rfl) q693 q328 q330 q72 q332 (by decide +kernel) rfl ⟨⟨Nat.le_of_ble_eq_true rfl, Nat.le_of_ble_eq_true rfl⟩, ⟨(Nat.le_of_ble_eq_true rfl), (Nat.le_of_ble_eq_true rfl)⟩⟩ (Nat.le_of_ble_eq_true rfl) hl.1 rfl dX2_direction_8 cX_no (fun r1 σ1 H locs hp1 hW => ?_)
  obtain ⟨rfl, hs1⟩ := hp1
  rw [hs1] at hW
  refine W.eq (g2 := F0 m_ 13 ls (.ref (L (10 + (pA v q))) :: [])) rfl ?_
  refine s_cast_ F hW (C := RX4) (T := TX4) (N := 3) ((hWk.2.2.2.2.1 (pA v q) (by omega)).1) rfl q790 dX2_direction_13 ?_
  refine s_getN F hW (ci := 8) (C := RX4) (T := TX4) (N := 3) (v := .int (nI (tK v (pA v q)))) ((hWk.2.2.2.2.1 (pA v q) (by omega)).1) rfl in_X4 1 (by decide) q951 (fun _ h9 => h9) rfl dX2_direction_16 ?_
  refine lv_aload_n F.x F.cd dX2_direction_19 rfl (lv_at hl 0 rfl) ?_
  refine s_get F hW (ci := 1) (C := RX2) (T := TX2) (N := 6) (v := .ref (L 1)) (hWk.1) rfl in_X2 0 (by decide) q159 (fun _ h9 => h9) rfl dX2_direction_20 ?_
  refine lv_aload_n F.x F.cd dX2_direction_23 rfl (lv_at hl 1 rfl) ?_
  refine s_getN F hW (ci := 9) (C := RX5) (T := TX5) (N := 7) (v := .int (nI (pB v q))) ((hWk.2.2.2.2.2.1 q hq).1) rfl in_X5 1 (by decide) q1073 (fun _ h9 => h9) rfl dX2_direction_24 ?_
  refine s_callF (As := [.int (nI (pB v q))]) (rest := [.int (nI (tK v (pA v q)))]) (C := RJ2) (T := TJ2) (N := 3) (n := 1) F hW (k_J2_get g l σ _ _ _ _ (pB v q) hT (by omega)) (eT) rfl (List.mem_of_getElem? (i := 1) rfl) q693 q328 q330 q72 q332 (by decide +kernel) rfl ⟨⟨Nat.le_of_ble_eq_true rfl, Nat.le_of_ble_eq_true rfl⟩, ⟨(Nat.le_of_ble_eq_true rfl), (Nat.le_of_ble_eq_true rfl)⟩⟩ (Nat.le_of_ble_eq_true rfl) hl.1 rfl dX2_direction_27 cX_no (fun r2 σ2 H locs hp2 hW => ?_)
  obtain ⟨rfl, hs2⟩ := hp2
  rw [hs2] at hW
  refine W.eq (g2 := F0 m_ 32 ls (.ref (L (10 + (pB v q))) :: .int (nI (tK v (pA v q))) :: [])) rfl ?_
  refine s_cast_ F hW (C := RX4) (T := TX4) (N := 3) ((hWk.2.2.2.2.1 (pB v q) (by omega)).1) rfl q790 dX2_direction_32 ?_
  refine s_getN F hW (ci := 8) (C := RX4) (T := TX4) (N := 3) (v := .int (nI (tK v (pB v q)))) ((hWk.2.2.2.2.1 (pB v q) (by omega)).1) rfl in_X4 1 (by decide) q951 (fun _ h9 => h9) rfl dX2_direction_35 ?_
  refine n_icmp_le (a := tK v (pA v q)) (b := tK v (pB v q)) (tgt := 45) F (by omega) (by omega) dX2_direction_38 (by decide) (fun c_38 => ?_) (fun c_38 => ?_)
  · refine lv_iconst (v := (nI 0)) F.x F.cd dX2_direction_45 (by decide) ?_
    refine lv_istore_n (lv' := [(2, .int (nI 0)), (0, .ref (L 0)), (1, .ref (L (100 + q)))]) F.x F.cd dX2_direction_46 rfl hl (by decide) rfl (fun ls hl => ?_)
    refine lv_iload_n F.x F.cd dX2_direction_47 rfl (lv_at hl 0 rfl) ?_
    refine n_if_eq (a := 0) (tgt := 57) F (by omega) dX2_direction_48 (by decide) (fun c_48 => ?_) (fun c_48 => absurd (by decide) c_48)
    refine s_gets F hW (v := .ref (gA g 5)) (List.mem_of_getElem? (i := 6) rfl) q1308 (fun _ h9 => h9) dX2_direction_57 ?_
    subst hQ
    exact s_reta F hW (Or.inl ⟨_, rfl⟩) (Or.inr ⟨_, rfl⟩) (⟨by rw [if_neg (by omega)], rfl⟩) ⟨(Nat.le_of_ble_eq_true rfl), (Nat.le_of_ble_eq_true rfl)⟩ dX2_direction_60
  · refine lv_iconst (v := (nI 1)) F.x F.cd dX2_direction_41 (by decide) ?_
    refine lv_goto (tgt := 46) F.x F.cd dX2_direction_42 (by decide) ?_
    refine lv_istore_n (lv' := [(2, .int (nI 1)), (0, .ref (L 0)), (1, .ref (L (100 + q)))]) F.x F.cd dX2_direction_46 rfl hl (by decide) rfl (fun ls hl => ?_)
    refine lv_iload_n F.x F.cd dX2_direction_47 rfl (lv_at hl 0 rfl) ?_
    refine n_if_eq (a := 1) (tgt := 57) F (by omega) dX2_direction_48 (by decide) (fun c_48 => absurd c_48 (by decide)) (fun c_48 => ?_)
    refine s_gets F hW (v := .ref (gA g 4)) (List.mem_of_getElem? (i := 5) rfl) q1306 (fun _ h9 => h9) dX2_direction_51 ?_
    refine lv_goto (tgt := 60) F.x F.cd dX2_direction_54 (by decide) ?_
    subst hQ
    exact s_reta F hW (Or.inl ⟨_, rfl⟩) (Or.inr ⟨_, rfl⟩) (⟨by rw [if_pos (by omega)], rfl⟩) ⟨(Nat.le_of_ble_eq_true rfl), (Nat.le_of_ble_eq_true rfl)⟩ dX2_direction_60
set_option maxHeartbeats 4000000 in
theorem k_X15_from (g : Gh) (l : Launch) (σ : Sto) (h0 h a b n s r d t : Nat) (e0 : σ h = some (oPipe a b n s r d t)) : CtU g l yX15_from cX15_from 2 (some .int) ({ frames := 0, cells := 0, slots := 0, locals := 0 } : Room) [.ref h0, .ref h] σ (fun r' σ' => r' = some (.int (nI a)) ∧ σ' = σ) (nox) := by
  refine CtU.body (by decide) (Nat.le_of_ble_eq_true rfl) ?_
  intro p_ e_ s_ m_ args_ below_ meth_ c_ ls H locs Q F hW hl hQ
  have hl : lv_has ls 2 [(0, .ref h0), (1, .ref h)] := hl
  refine lv_aload_n F.x F.cd dX15_from_0 rfl (lv_at hl 1 rfl) ?_
  refine s_getN F hW (ci := 9) (C := RX5) (T := TX5) (N := 7) (v := .int (nI a)) (e0) rfl in_X5 0 (by decide) q1068 (fun _ h9 => h9) rfl dX15_from_1 ?_
  subst hQ
  exact s_reti (v := (nI a)) F hW rfl (⟨rfl, rfl⟩) ⟨(Nat.le_of_ble_eq_true rfl), (Nat.le_of_ble_eq_true rfl)⟩ dX15_from_4
set_option maxHeartbeats 4000000 in
theorem k_X15_signed (g : Gh) (l : Launch) (σ : Sto) (h0 : Nat) (x : Int32)  : CtU g l yX15_signed cX15_signed 2 (some .int) ({ frames := 0, cells := 0, slots := 0, locals := 0 } : Room) [.ref h0, .int x] σ (fun r' σ' => r' = some (.int (x)) ∧ σ' = σ) (nox) := by
  refine CtU.body (by decide) (Nat.le_of_ble_eq_true rfl) ?_
  intro p_ e_ s_ m_ args_ below_ meth_ c_ ls H locs Q F hW hl hQ
  have hl : lv_has ls 2 [(0, .ref h0), (1, .int x)] := hl
  refine lv_iload_n F.x F.cd dX15_signed_0 rfl (lv_at hl 1 rfl) ?_
  subst hQ
  exact s_reti (v := x) F hW rfl (⟨rfl, rfl⟩) ⟨(Nat.le_of_ble_eq_true rfl), (Nat.le_of_ble_eq_true rfl)⟩ dX15_signed_1
set_option maxHeartbeats 4000000 in
theorem k_X16_from (g : Gh) (l : Launch) (σ : Sto) (h0 h a b n s r d t : Nat) (e0 : σ h = some (oPipe a b n s r d t)) : CtU g l yX16_from cX16_from 2 (some .int) ({ frames := 0, cells := 0, slots := 0, locals := 0 } : Room) [.ref h0, .ref h] σ (fun r' σ' => r' = some (.int (nI b)) ∧ σ' = σ) (nox) := by
  refine CtU.body (by decide) (Nat.le_of_ble_eq_true rfl) ?_
  intro p_ e_ s_ m_ args_ below_ meth_ c_ ls H locs Q F hW hl hQ
  have hl : lv_has ls 2 [(0, .ref h0), (1, .ref h)] := hl
  refine lv_aload_n F.x F.cd dX16_from_0 rfl (lv_at hl 1 rfl) ?_
  refine s_getN F hW (ci := 9) (C := RX5) (T := TX5) (N := 7) (v := .int (nI b)) (e0) rfl in_X5 1 (by decide) q1072 (fun _ h9 => h9) rfl dX16_from_1 ?_
  subst hQ
  exact s_reti (v := (nI b)) F hW rfl (⟨rfl, rfl⟩) ⟨(Nat.le_of_ble_eq_true rfl), (Nat.le_of_ble_eq_true rfl)⟩ dX16_from_4
set_option maxHeartbeats 4000000 in
theorem k_X16_signed (g : Gh) (l : Launch) (σ : Sto) (h0 : Nat) (x : Int32)  : CtU g l yX16_signed cX16_signed 2 (some .int) ({ frames := 0, cells := 0, slots := 0, locals := 0 } : Room) [.ref h0, .int x] σ (fun r' σ' => r' = some (.int (-x)) ∧ σ' = σ) (nox) := by
  refine CtU.body (by decide) (Nat.le_of_ble_eq_true rfl) ?_
  intro p_ e_ s_ m_ args_ below_ meth_ c_ ls H locs Q F hW hl hQ
  have hl : lv_has ls 2 [(0, .ref h0), (1, .int x)] := hl
  refine lv_iload_n F.x F.cd dX16_signed_0 rfl (lv_at hl 1 rfl) ?_
  refine a_ineg (v := (-x)) F rfl dX16_signed_1 ?_
  subst hQ
  exact s_reti (v := (-x)) F hW rfl (⟨rfl, rfl⟩) ⟨(Nat.le_of_ble_eq_true rfl), (Nat.le_of_ble_eq_true rfl)⟩ dX16_signed_2
set_option maxHeartbeats 4000000 in
theorem k_X2_litres (g : Gh) (l : Launch) (σ : Sto) (L v : Nat → Nat) (q : Nat) (hWk : IsWorks g σ L v) (hI : Inv v) (hq : q < v 1) : Ct g l yX2_litres cX2_litres 6 (some .int) ({ frames := 4, cells := 0, slots := 0, locals := 86 } : Room) [.ref (L 0), .ref (L (100 + q))] σ (fun r σ' => r = some (.int (nI (lit v q))) ∧ σ' = σ) (nox) := by
  refine Ct.body (by decide) (Nat.le_of_ble_eq_true rfl) ?_
  intro p_ e_ s_ m_ args_ below_ meth_ c_ ls H locs Q F hW hl hQ
  have hl : lv_has ls 6 [(0, .ref (L 0)), (1, .ref (L (100 + q)))] := hl
  have hT := hWk.2.2.1
  have hP := hWk.2.2.2.1
  obtain ⟨mcT, nT, fT, eT, bT, -⟩ := id hT
  obtain ⟨mcP, nP, fP, eP, bP, -⟩ := id hP
  have hv0 := hI.1
  have hv1 := hI.2.1
  obtain ⟨hqa, hqb, hqab, hqm, hqv, hqr, hqd⟩ := hI.pp hq
  obtain ⟨hac, hac2, hak, hai⟩ := hI.tk hqa
  obtain ⟨hbc, hbc2, hbk, hbi⟩ := hI.tk hqb
  refine lv_aload_n F.x F.cd dX2_litres_0 rfl (lv_at hl 0 rfl) ?_
  refine lv_aload_n F.x F.cd dX2_litres_1 rfl (lv_at hl 1 rfl) ?_
  refine s_callV (As := [.ref (L (100 + q))]) (rest := []) (C := RX2) (T := TX2) (N := 6) (n := 1) F hW (k_X2_direction g l σ L v q hWk hI (by omega)) (hWk.1) rfl q1302 q1304 qs13 q69 q1305 rfl (by decide +kernel) rfl ⟨⟨Nat.le_of_ble_eq_true rfl, Nat.le_of_ble_eq_true rfl⟩, ⟨(Nat.le_of_ble_eq_true rfl), (Nat.le_of_ble_eq_true rfl)⟩⟩ (Nat.le_of_ble_eq_true rfl) hl.1 rfl dX2_litres_2 cX_no (fun r1 σ1 H locs hp1 hW => ?_)
  obtain ⟨rfl, hs1⟩ := hp1
  rw [hs1] at hW
  refine W.eq (g2 := F0 m_ 5 ls (.ref (if tK v (pB v q) < tK v (pA v q) then gA g 4 else gA g 5) :: [])) rfl ?_
  by_cases hf1 : tK v (pB v q) < tK v (pA v q)
  · refine W.eq (g2 := F0 m_ 5 ls (.ref (gA g 4) :: [])) (by rw [if_pos hf1]) ?_
    refine lv_aload_n F.x F.cd dX2_litres_5 rfl (lv_at hl 1 rfl) ?_
    refine s_callB (owner := "FilterWaterworks$Direction") (As := [.ref (L (100 + q))]) (rest := []) (C := RX15) (T := TX4) (N := 0) (n := 1) F hW (k_X15_from g l σ (gA g 4) (L (100 + q)) (pA v q) (pB v q) (pM v q) (pV v q) (pR v q) (pD v q) (pL v q) ((hWk.2.2.2.2.2.1 q hq).1)) (hW.1.old F.cs F.cs.2.2.2.2.2.1) rfl q1310 q1312 q1313 q1314 q1315 q1311 (by decide +kernel) rfl ⟨⟨Nat.le_of_ble_eq_true rfl, Nat.le_of_ble_eq_true rfl⟩, ⟨(Nat.le_of_ble_eq_true rfl), (Nat.le_of_ble_eq_true rfl)⟩⟩ (Nat.le_of_ble_eq_true rfl) hl.1 rfl dX2_litres_6 cX_no (fun r2 σ2 H locs hp2 hW => ?_)
    obtain ⟨rfl, hs2⟩ := hp2
    rw [hs2] at hW
    refine W.eq (g2 := F0 m_ 9 ls (.int (nI (pA v q)) :: [])) rfl ?_
    refine lv_istore_n (lv' := [(2, .int (nI (pA v q))), (0, .ref (L 0)), (1, .ref (L (100 + q)))]) F.x F.cd dX2_litres_9 rfl hl (by decide) rfl (fun ls hl => ?_)
    refine lv_aload_n F.x F.cd dX2_litres_10 rfl (lv_at hl 1 rfl) ?_
    refine s_get F hW (ci := 1) (C := RX2) (T := TX2) (N := 6) (v := .ref (L 1)) (hWk.1) rfl in_X2 0 (by decide) q159 (fun _ h9 => h9) rfl dX2_litres_11 ?_
    refine lv_iload_n F.x F.cd dX2_litres_14 rfl (lv_at hl 0 rfl) ?_
    refine s_callF (As := [.int (nI (pA v q))]) (rest := []) (C := RJ2) (T := TJ2) (N := 3) (n := 1) F hW (k_J2_get g l σ _ _ _ _ (pA v q) hT (by omega)) (eT) rfl (List.mem_of_getElem? (i := 1) rfl) q693 q328 q330 q72 q332 (by decide +kernel) rfl ⟨⟨Nat.le_of_ble_eq_true rfl, Nat.le_of_ble_eq_true rfl⟩, ⟨(Nat.le_of_ble_eq_true rfl), (Nat.le_of_ble_eq_true rfl)⟩⟩ (Nat.le_of_ble_eq_true rfl) hl.1 rfl dX2_litres_15 cX_no (fun r3 σ3 H locs hp3 hW => ?_)
    obtain ⟨rfl, hs3⟩ := hp3
    rw [hs3] at hW
    refine W.eq (g2 := F0 m_ 20 ls (.ref (L (10 + (pA v q))) :: [])) rfl ?_
    refine s_cast_ F hW (C := RX4) (T := TX4) (N := 3) ((hWk.2.2.2.2.1 (pA v q) (by omega)).1) rfl q790 dX2_litres_20 ?_
    refine lv_astore_n (lv' := [(3, .ref (L (10 + (pA v q)))), (2, .int (nI (pA v q))), (0, .ref (L 0)), (1, .ref (L (100 + q)))]) F.x F.cd dX2_litres_23 rfl hl (by decide) rfl (fun ls hl => ?_)
    refine lv_aload_n F.x F.cd dX2_litres_24 rfl (lv_at hl 2 rfl) ?_
    refine s_get F hW (ci := 1) (C := RX2) (T := TX2) (N := 6) (v := .ref (L 1)) (hWk.1) rfl in_X2 0 (by decide) q159 (fun _ h9 => h9) rfl dX2_litres_25 ?_
    refine lv_aload_n F.x F.cd dX2_litres_28 rfl (lv_at hl 3 rfl) ?_
    refine lv_iload_n F.x F.cd dX2_litres_29 rfl (lv_at hl 1 rfl) ?_
    refine s_callV (As := [.int (nI (pA v q))]) (rest := [.ref (L 1)]) (C := RX5) (T := TX5) (N := 7) (n := 1) F hW (k_X5_otherEnd g l σ (L (100 + q)) (pA v q) (pB v q) (pM v q) (pV v q) (pR v q) (pD v q) (pL v q) (pA v q) ((hWk.2.2.2.2.2.1 q hq).1) (by omega) (by omega)) ((hWk.2.2.2.2.2.1 q hq).1) rfl q851 q680 q681 q96 q682 rfl (by decide +kernel) rfl ⟨⟨Nat.le_of_ble_eq_true rfl, Nat.le_of_ble_eq_true rfl⟩, ⟨(Nat.le_of_ble_eq_true rfl), (Nat.le_of_ble_eq_true rfl)⟩⟩ (Nat.le_of_ble_eq_true rfl) hl.1 rfl dX2_litres_30 cX_no (fun r4 σ4 H locs hp4 hW => ?_)
    obtain ⟨rfl, hs4⟩ := hp4
    rw [hs4] at hW
    refine W.eq (g2 := F0 m_ 33 ls (.int (nI (pB v q)) :: .ref (L 1) :: [])) (by rw [oth_a]; rfl) ?_
    refine s_callF (As := [.int (nI (pB v q))]) (rest := []) (C := RJ2) (T := TJ2) (N := 3) (n := 1) F hW (k_J2_get g l σ _ _ _ _ (pB v q) hT (by omega)) (eT) rfl (List.mem_of_getElem? (i := 1) rfl) q693 q328 q330 q72 q332 (by decide +kernel) rfl ⟨⟨Nat.le_of_ble_eq_true rfl, Nat.le_of_ble_eq_true rfl⟩, ⟨(Nat.le_of_ble_eq_true rfl), (Nat.le_of_ble_eq_true rfl)⟩⟩ (Nat.le_of_ble_eq_true rfl) hl.1 rfl dX2_litres_33 cX_no (fun r5 σ5 H locs hp5 hW => ?_)
    obtain ⟨rfl, hs5⟩ := hp5
    rw [hs5] at hW
    refine W.eq (g2 := F0 m_ 38 ls (.ref (L (10 + (pB v q))) :: [])) rfl ?_
    refine s_cast_ F hW (C := RX4) (T := TX4) (N := 3) ((hWk.2.2.2.2.1 (pB v q) (by omega)).1) rfl q790 dX2_litres_38 ?_
    refine lv_astore (lv' := [(4, .ref (L (10 + (pB v q)))), (3, .ref (L (10 + (pA v q)))), (2, .int (nI (pA v q))), (0, .ref (L 0)), (1, .ref (L (100 + q)))]) F.x F.cd dX2_litres_41 hl (by decide) rfl (fun ls hl => ?_)
    refine lv_aload_n F.x F.cd dX2_litres_43 rfl (lv_at hl 1 rfl) ?_
    refine s_getN F hW (ci := 8) (C := RX4) (T := TX4) (N := 3) (v := .int (nI (tK v (pA v q)))) ((hWk.2.2.2.2.1 (pA v q) (by omega)).1) rfl in_X4 1 (by decide) q951 (fun _ h9 => h9) rfl dX2_litres_44 ?_
    refine lv_aload F.x F.cd dX2_litres_47 (lv_at hl 0 rfl) ?_
    refine s_getN F hW (ci := 8) (C := RX4) (T := TX4) (N := 3) (v := .int (nI (tK v (pB v q)))) ((hWk.2.2.2.2.1 (pB v q) (by omega)).1) rfl in_X4 1 (by decide) q951 (fun _ h9 => h9) rfl dX2_litres_49 ?_
    refine a_isub (v := (nI ((tK v (pA v q)) - (tK v (pB v q))))) F (pk_sub (by omega)) dX2_litres_52 ?_
    refine lv_iconst (v := (nI 2)) F.x F.cd dX2_litres_53 (by decide) ?_
    refine a_idiv (v := (nI (((tK v (pA v q)) - (tK v (pB v q))) / 2))) F (pk_div (by omega) (by omega) (by omega)) (by decide) dX2_litres_54 ?_
    refine lv_istore (lv' := [(5, .int (nI (((tK v (pA v q)) - (tK v (pB v q))) / 2))), (4, .ref (L (10 + (pB v q)))), (3, .ref (L (10 + (pA v q)))), (2, .int (nI (pA v q))), (0, .ref (L 0)), (1, .ref (L (100 + q)))]) F.x F.cd dX2_litres_55 hl (by decide) rfl (fun ls hl => ?_)
    refine lv_aload_n F.x F.cd dX2_litres_57 rfl (lv_at hl 5 rfl) ?_
    refine s_callV (As := []) (rest := []) (C := RX5) (T := TX5) (N := 7) (n := 0) F hW (k_X5_isOpen g l σ (L (100 + q)) (pA v q) (pB v q) (pM v q) (pV v q) (pR v q) (pD v q) (pL v q) ((hWk.2.2.2.2.2.1 q hq).1) (by omega) (by omega)) ((hWk.2.2.2.2.2.1 q hq).1) rfl q698 q672 q673 q96 q674 rfl (by decide +kernel) rfl ⟨⟨Nat.le_of_ble_eq_true rfl, Nat.le_of_ble_eq_true rfl⟩, ⟨(Nat.le_of_ble_eq_true rfl), (Nat.le_of_ble_eq_true rfl)⟩⟩ (Nat.le_of_ble_eq_true rfl) hl.1 rfl dX2_litres_58 cX_no (fun r6 σ6 H locs hp6 hW => ?_)
    obtain ⟨rfl, hs6⟩ := hp6
    rw [hs6] at hW
    refine W.eq (g2 := F0 m_ 61 ls (.int (bI (opn (pV v q) (pD v q))) :: [])) rfl ?_
    refine b_if_eq (b := (opn (pV v q) (pD v q))) (tgt := 86) F dX2_litres_61 (by decide) (fun c_61 => ?_) (fun c_61 => ?_)
    · refine lv_iconst (v := (nI 0)) F.x F.cd dX2_litres_86 (by decide) ?_
      subst hQ
      exact s_reti (v := (nI 0)) F hW rfl (⟨by rw [lit_0 c_61], rfl⟩) ⟨(Nat.le_of_ble_eq_true rfl), (Nat.le_of_ble_eq_true rfl)⟩ dX2_litres_87
    · refine lv_iconst (v := (nI 5)) F.x F.cd dX2_litres_64 (by decide) ?_
      refine lv_aload_n F.x F.cd dX2_litres_65 rfl (lv_at hl 5 rfl) ?_
      refine s_getN F hW (ci := 9) (C := RX5) (T := TX5) (N := 7) (v := .int (nI (pV v q))) ((hWk.2.2.2.2.2.1 q hq).1) rfl in_X5 3 (by decide) q1079 (fun _ h9 => h9) rfl dX2_litres_66 ?_
      refine a_imul (v := (nI (5 * (pV v q)))) F (pk_mul _ _) dX2_litres_69 ?_
      refine lv_iload F.x F.cd dX2_litres_70 (lv_at hl 0 rfl) ?_
      refine lv_aload F.x F.cd dX2_litres_72 (lv_at hl 1 rfl) ?_
      refine s_callV (As := []) (rest := [.int (nI (((tK v (pA v q)) - (tK v (pB v q))) / 2)), .int (nI (5 * (pV v q)))]) (C := RX4) (T := TX4) (N := 3) (n := 0) F hW (k_X4_room g l σ (L (10 + (pB v q))) (tC v (pB v q)) (tK v (pB v q)) (tI v (pB v q)) ((hWk.2.2.2.2.1 (pB v q) (by omega)).1) (by omega)) ((hWk.2.2.2.2.1 (pB v q) (by omega)).1) rfl q833 q834 q835 q94 q836 rfl (by decide +kernel) rfl ⟨⟨Nat.le_of_ble_eq_true rfl, Nat.le_of_ble_eq_true rfl⟩, ⟨(Nat.le_of_ble_eq_true rfl), (Nat.le_of_ble_eq_true rfl)⟩⟩ (Nat.le_of_ble_eq_true rfl) hl.1 rfl dX2_litres_74 cX_no (fun r7 σ7 H locs hp7 hW => ?_)
      obtain ⟨rfl, hs7⟩ := hp7
      rw [hs7] at hW
      refine W.eq (g2 := F0 m_ 77 ls (.int (nI ((tC v (pB v q)) - (tK v (pB v q)))) :: .int (nI (((tK v (pA v q)) - (tK v (pB v q))) / 2)) :: .int (nI (5 * (pV v q))) :: [])) rfl ?_
      refine s_mmin (v := (nI (min (((tK v (pA v q)) - (tK v (pB v q))) / 2) ((tC v (pB v q)) - (tK v (pB v q)))))) F q852 q453 q87 q454 hl.1 (Nat.le_of_ble_eq_true rfl) (Nat.le_of_ble_eq_true rfl) (Nat.le_of_ble_eq_true rfl) (Nat.le_of_ble_eq_true rfl) (nI_min (by omega) (by omega)) dX2_litres_77 ?_
      refine s_mmin (v := (nI (min (5 * (pV v q)) (min (((tK v (pA v q)) - (tK v (pB v q))) / 2) ((tC v (pB v q)) - (tK v (pB v q))))))) F q852 q453 q87 q454 hl.1 (Nat.le_of_ble_eq_true rfl) (Nat.le_of_ble_eq_true rfl) (Nat.le_of_ble_eq_true rfl) (Nat.le_of_ble_eq_true rfl) (nI_min (by omega) (by omega)) dX2_litres_80 ?_
      refine lv_goto (tgt := 87) F.x F.cd dX2_litres_83 (by decide) ?_
      subst hQ
      exact s_reti (v := (nI (min (5 * (pV v q)) (min (((tK v (pA v q)) - (tK v (pB v q))) / 2) ((tC v (pB v q)) - (tK v (pB v q))))))) F hW rfl (⟨by rw [lit_f c_61 hf1], rfl⟩) ⟨(Nat.le_of_ble_eq_true rfl), (Nat.le_of_ble_eq_true rfl)⟩ dX2_litres_87
  · refine W.eq (g2 := F0 m_ 5 ls (.ref (gA g 5) :: [])) (by rw [if_neg hf1]) ?_
    refine lv_aload_n F.x F.cd dX2_litres_5 rfl (lv_at hl 1 rfl) ?_
    refine s_callB (owner := "FilterWaterworks$Direction") (As := [.ref (L (100 + q))]) (rest := []) (C := RX16) (T := TX4) (N := 0) (n := 1) F hW (k_X16_from g l σ (gA g 5) (L (100 + q)) (pA v q) (pB v q) (pM v q) (pV v q) (pR v q) (pD v q) (pL v q) ((hWk.2.2.2.2.2.1 q hq).1)) (hW.1.old F.cs F.cs.2.2.2.2.2.2.1) rfl q1310 q1312 q1316 q1317 q1318 q1311 (by decide +kernel) rfl ⟨⟨Nat.le_of_ble_eq_true rfl, Nat.le_of_ble_eq_true rfl⟩, ⟨(Nat.le_of_ble_eq_true rfl), (Nat.le_of_ble_eq_true rfl)⟩⟩ (Nat.le_of_ble_eq_true rfl) hl.1 rfl dX2_litres_6 cX_no (fun r8 σ8 H locs hp8 hW => ?_)
    obtain ⟨rfl, hs8⟩ := hp8
    rw [hs8] at hW
    refine W.eq (g2 := F0 m_ 9 ls (.int (nI (pB v q)) :: [])) rfl ?_
    refine lv_istore_n (lv' := [(2, .int (nI (pB v q))), (0, .ref (L 0)), (1, .ref (L (100 + q)))]) F.x F.cd dX2_litres_9 rfl hl (by decide) rfl (fun ls hl => ?_)
    refine lv_aload_n F.x F.cd dX2_litres_10 rfl (lv_at hl 1 rfl) ?_
    refine s_get F hW (ci := 1) (C := RX2) (T := TX2) (N := 6) (v := .ref (L 1)) (hWk.1) rfl in_X2 0 (by decide) q159 (fun _ h9 => h9) rfl dX2_litres_11 ?_
    refine lv_iload_n F.x F.cd dX2_litres_14 rfl (lv_at hl 0 rfl) ?_
    refine s_callF (As := [.int (nI (pB v q))]) (rest := []) (C := RJ2) (T := TJ2) (N := 3) (n := 1) F hW (k_J2_get g l σ _ _ _ _ (pB v q) hT (by omega)) (eT) rfl (List.mem_of_getElem? (i := 1) rfl) q693 q328 q330 q72 q332 (by decide +kernel) rfl ⟨⟨Nat.le_of_ble_eq_true rfl, Nat.le_of_ble_eq_true rfl⟩, ⟨(Nat.le_of_ble_eq_true rfl), (Nat.le_of_ble_eq_true rfl)⟩⟩ (Nat.le_of_ble_eq_true rfl) hl.1 rfl dX2_litres_15 cX_no (fun r9 σ9 H locs hp9 hW => ?_)
    obtain ⟨rfl, hs9⟩ := hp9
    rw [hs9] at hW
    refine W.eq (g2 := F0 m_ 20 ls (.ref (L (10 + (pB v q))) :: [])) rfl ?_
    refine s_cast_ F hW (C := RX4) (T := TX4) (N := 3) ((hWk.2.2.2.2.1 (pB v q) (by omega)).1) rfl q790 dX2_litres_20 ?_
    refine lv_astore_n (lv' := [(3, .ref (L (10 + (pB v q)))), (2, .int (nI (pB v q))), (0, .ref (L 0)), (1, .ref (L (100 + q)))]) F.x F.cd dX2_litres_23 rfl hl (by decide) rfl (fun ls hl => ?_)
    refine lv_aload_n F.x F.cd dX2_litres_24 rfl (lv_at hl 2 rfl) ?_
    refine s_get F hW (ci := 1) (C := RX2) (T := TX2) (N := 6) (v := .ref (L 1)) (hWk.1) rfl in_X2 0 (by decide) q159 (fun _ h9 => h9) rfl dX2_litres_25 ?_
    refine lv_aload_n F.x F.cd dX2_litres_28 rfl (lv_at hl 3 rfl) ?_
    refine lv_iload_n F.x F.cd dX2_litres_29 rfl (lv_at hl 1 rfl) ?_
    refine s_callV (As := [.int (nI (pB v q))]) (rest := [.ref (L 1)]) (C := RX5) (T := TX5) (N := 7) (n := 1) F hW (k_X5_otherEnd g l σ (L (100 + q)) (pA v q) (pB v q) (pM v q) (pV v q) (pR v q) (pD v q) (pL v q) (pB v q) ((hWk.2.2.2.2.2.1 q hq).1) (by omega) (by omega)) ((hWk.2.2.2.2.2.1 q hq).1) rfl q851 q680 q681 q96 q682 rfl (by decide +kernel) rfl ⟨⟨Nat.le_of_ble_eq_true rfl, Nat.le_of_ble_eq_true rfl⟩, ⟨(Nat.le_of_ble_eq_true rfl), (Nat.le_of_ble_eq_true rfl)⟩⟩ (Nat.le_of_ble_eq_true rfl) hl.1 rfl dX2_litres_30 cX_no (fun r10 σ10 H locs hp10 hW => ?_)
    obtain ⟨rfl, hs10⟩ := hp10
    rw [hs10] at hW
    refine W.eq (g2 := F0 m_ 33 ls (.int (nI (pA v q)) :: .ref (L 1) :: [])) (by rw [oth_b hqab]; rfl) ?_
    refine s_callF (As := [.int (nI (pA v q))]) (rest := []) (C := RJ2) (T := TJ2) (N := 3) (n := 1) F hW (k_J2_get g l σ _ _ _ _ (pA v q) hT (by omega)) (eT) rfl (List.mem_of_getElem? (i := 1) rfl) q693 q328 q330 q72 q332 (by decide +kernel) rfl ⟨⟨Nat.le_of_ble_eq_true rfl, Nat.le_of_ble_eq_true rfl⟩, ⟨(Nat.le_of_ble_eq_true rfl), (Nat.le_of_ble_eq_true rfl)⟩⟩ (Nat.le_of_ble_eq_true rfl) hl.1 rfl dX2_litres_33 cX_no (fun r11 σ11 H locs hp11 hW => ?_)
    obtain ⟨rfl, hs11⟩ := hp11
    rw [hs11] at hW
    refine W.eq (g2 := F0 m_ 38 ls (.ref (L (10 + (pA v q))) :: [])) rfl ?_
    refine s_cast_ F hW (C := RX4) (T := TX4) (N := 3) ((hWk.2.2.2.2.1 (pA v q) (by omega)).1) rfl q790 dX2_litres_38 ?_
    refine lv_astore (lv' := [(4, .ref (L (10 + (pA v q)))), (3, .ref (L (10 + (pB v q)))), (2, .int (nI (pB v q))), (0, .ref (L 0)), (1, .ref (L (100 + q)))]) F.x F.cd dX2_litres_41 hl (by decide) rfl (fun ls hl => ?_)
    refine lv_aload_n F.x F.cd dX2_litres_43 rfl (lv_at hl 1 rfl) ?_
    refine s_getN F hW (ci := 8) (C := RX4) (T := TX4) (N := 3) (v := .int (nI (tK v (pB v q)))) ((hWk.2.2.2.2.1 (pB v q) (by omega)).1) rfl in_X4 1 (by decide) q951 (fun _ h9 => h9) rfl dX2_litres_44 ?_
    refine lv_aload F.x F.cd dX2_litres_47 (lv_at hl 0 rfl) ?_
    refine s_getN F hW (ci := 8) (C := RX4) (T := TX4) (N := 3) (v := .int (nI (tK v (pA v q)))) ((hWk.2.2.2.2.1 (pA v q) (by omega)).1) rfl in_X4 1 (by decide) q951 (fun _ h9 => h9) rfl dX2_litres_49 ?_
    refine a_isub (v := (nI ((tK v (pB v q)) - (tK v (pA v q))))) F (pk_sub (by omega)) dX2_litres_52 ?_
    refine lv_iconst (v := (nI 2)) F.x F.cd dX2_litres_53 (by decide) ?_
    refine a_idiv (v := (nI (((tK v (pB v q)) - (tK v (pA v q))) / 2))) F (pk_div (by omega) (by omega) (by omega)) (by decide) dX2_litres_54 ?_
    refine lv_istore (lv' := [(5, .int (nI (((tK v (pB v q)) - (tK v (pA v q))) / 2))), (4, .ref (L (10 + (pA v q)))), (3, .ref (L (10 + (pB v q)))), (2, .int (nI (pB v q))), (0, .ref (L 0)), (1, .ref (L (100 + q)))]) F.x F.cd dX2_litres_55 hl (by decide) rfl (fun ls hl => ?_)
    refine lv_aload_n F.x F.cd dX2_litres_57 rfl (lv_at hl 5 rfl) ?_
    refine s_callV (As := []) (rest := []) (C := RX5) (T := TX5) (N := 7) (n := 0) F hW (k_X5_isOpen g l σ (L (100 + q)) (pA v q) (pB v q) (pM v q) (pV v q) (pR v q) (pD v q) (pL v q) ((hWk.2.2.2.2.2.1 q hq).1) (by omega) (by omega)) ((hWk.2.2.2.2.2.1 q hq).1) rfl q698 q672 q673 q96 q674 rfl (by decide +kernel) rfl ⟨⟨Nat.le_of_ble_eq_true rfl, Nat.le_of_ble_eq_true rfl⟩, ⟨(Nat.le_of_ble_eq_true rfl), (Nat.le_of_ble_eq_true rfl)⟩⟩ (Nat.le_of_ble_eq_true rfl) hl.1 rfl dX2_litres_58 cX_no (fun r12 σ12 H locs hp12 hW => ?_)
    obtain ⟨rfl, hs12⟩ := hp12
    rw [hs12] at hW
    refine W.eq (g2 := F0 m_ 61 ls (.int (bI (opn (pV v q) (pD v q))) :: [])) rfl ?_
    refine b_if_eq (b := (opn (pV v q) (pD v q))) (tgt := 86) F dX2_litres_61 (by decide) (fun c_61 => ?_) (fun c_61 => ?_)
    · refine lv_iconst (v := (nI 0)) F.x F.cd dX2_litres_86 (by decide) ?_
      subst hQ
      exact s_reti (v := (nI 0)) F hW rfl (⟨by rw [lit_0 c_61], rfl⟩) ⟨(Nat.le_of_ble_eq_true rfl), (Nat.le_of_ble_eq_true rfl)⟩ dX2_litres_87
    · refine lv_iconst (v := (nI 5)) F.x F.cd dX2_litres_64 (by decide) ?_
      refine lv_aload_n F.x F.cd dX2_litres_65 rfl (lv_at hl 5 rfl) ?_
      refine s_getN F hW (ci := 9) (C := RX5) (T := TX5) (N := 7) (v := .int (nI (pV v q))) ((hWk.2.2.2.2.2.1 q hq).1) rfl in_X5 3 (by decide) q1079 (fun _ h9 => h9) rfl dX2_litres_66 ?_
      refine a_imul (v := (nI (5 * (pV v q)))) F (pk_mul _ _) dX2_litres_69 ?_
      refine lv_iload F.x F.cd dX2_litres_70 (lv_at hl 0 rfl) ?_
      refine lv_aload F.x F.cd dX2_litres_72 (lv_at hl 1 rfl) ?_
      refine s_callV (As := []) (rest := [.int (nI (((tK v (pB v q)) - (tK v (pA v q))) / 2)), .int (nI (5 * (pV v q)))]) (C := RX4) (T := TX4) (N := 3) (n := 0) F hW (k_X4_room g l σ (L (10 + (pA v q))) (tC v (pA v q)) (tK v (pA v q)) (tI v (pA v q)) ((hWk.2.2.2.2.1 (pA v q) (by omega)).1) (by omega)) ((hWk.2.2.2.2.1 (pA v q) (by omega)).1) rfl q833 q834 q835 q94 q836 rfl (by decide +kernel) rfl ⟨⟨Nat.le_of_ble_eq_true rfl, Nat.le_of_ble_eq_true rfl⟩, ⟨(Nat.le_of_ble_eq_true rfl), (Nat.le_of_ble_eq_true rfl)⟩⟩ (Nat.le_of_ble_eq_true rfl) hl.1 rfl dX2_litres_74 cX_no (fun r13 σ13 H locs hp13 hW => ?_)
      obtain ⟨rfl, hs13⟩ := hp13
      rw [hs13] at hW
      refine W.eq (g2 := F0 m_ 77 ls (.int (nI ((tC v (pA v q)) - (tK v (pA v q)))) :: .int (nI (((tK v (pB v q)) - (tK v (pA v q))) / 2)) :: .int (nI (5 * (pV v q))) :: [])) rfl ?_
      refine s_mmin (v := (nI (min (((tK v (pB v q)) - (tK v (pA v q))) / 2) ((tC v (pA v q)) - (tK v (pA v q)))))) F q852 q453 q87 q454 hl.1 (Nat.le_of_ble_eq_true rfl) (Nat.le_of_ble_eq_true rfl) (Nat.le_of_ble_eq_true rfl) (Nat.le_of_ble_eq_true rfl) (nI_min (by omega) (by omega)) dX2_litres_77 ?_
      refine s_mmin (v := (nI (min (5 * (pV v q)) (min (((tK v (pB v q)) - (tK v (pA v q))) / 2) ((tC v (pA v q)) - (tK v (pA v q))))))) F q852 q453 q87 q454 hl.1 (Nat.le_of_ble_eq_true rfl) (Nat.le_of_ble_eq_true rfl) (Nat.le_of_ble_eq_true rfl) (Nat.le_of_ble_eq_true rfl) (nI_min (by omega) (by omega)) dX2_litres_80 ?_
      refine lv_goto (tgt := 87) F.x F.cd dX2_litres_83 (by decide) ?_
      subst hQ
      exact s_reti (v := (nI (min (5 * (pV v q)) (min (((tK v (pB v q)) - (tK v (pA v q))) / 2) ((tC v (pA v q)) - (tK v (pA v q))))))) F hW rfl (⟨by rw [lit_b c_61 hf1], rfl⟩) ⟨(Nat.le_of_ble_eq_true rfl), (Nat.le_of_ble_eq_true rfl)⟩ dX2_litres_87
set_option maxHeartbeats 4000000 in
theorem k_X2_signedLitres (g : Gh) (l : Launch) (σ : Sto) (L v : Nat → Nat) (q : Nat) (hWk : IsWorks g σ L v) (hI : Inv v) (hq : q < v 1) : Ct g l yX2_signedLitres cX2_signedLitres 2 (some .int) ({ frames := 5, cells := 0, slots := 0, locals := 111 } : Room) [.ref (L 0), .ref (L (100 + q))] σ (fun r σ' => r = some (.int (lits v q)) ∧ σ' = σ) (nox) := by
  refine Ct.body (by decide) (Nat.le_of_ble_eq_true rfl) ?_
  intro p_ e_ s_ m_ args_ below_ meth_ c_ ls H locs Q F hW hl hQ
  have hl : lv_has ls 2 [(0, .ref (L 0)), (1, .ref (L (100 + q)))] := hl
  have hT := hWk.2.2.1
  have hP := hWk.2.2.2.1
  obtain ⟨mcT, nT, fT, eT, bT, -⟩ := id hT
  obtain ⟨mcP, nP, fP, eP, bP, -⟩ := id hP
  have hv0 := hI.1
  have hv1 := hI.2.1
  obtain ⟨hqa, hqb, hqab, hqm, hqv, hqr, hqd⟩ := hI.pp hq
  obtain ⟨hac, hac2, hak, hai⟩ := hI.tk hqa
  obtain ⟨hbc, hbc2, hbk, hbi⟩ := hI.tk hqb
  refine lv_aload_n F.x F.cd dX2_signedLitres_0 rfl (lv_at hl 0 rfl) ?_
  refine lv_aload_n F.x F.cd dX2_signedLitres_1 rfl (lv_at hl 1 rfl) ?_
  refine s_callV (As := [.ref (L (100 + q))]) (rest := []) (C := RX2) (T := TX2) (N := 6) (n := 1) F hW (k_X2_direction g l σ L v q hWk hI (by omega)) (hWk.1) rfl q1302 q1304 qs13 q69 q1305 rfl (by decide +kernel) rfl ⟨⟨Nat.le_of_ble_eq_true rfl, Nat.le_of_ble_eq_true rfl⟩, ⟨(Nat.le_of_ble_eq_true rfl), (Nat.le_of_ble_eq_true rfl)⟩⟩ (Nat.le_of_ble_eq_true rfl) hl.1 rfl dX2_signedLitres_2 cX_no (fun r1 σ1 H locs hp1 hW => ?_)
  obtain ⟨rfl, hs1⟩ := hp1
  rw [hs1] at hW
  refine W.eq (g2 := F0 m_ 5 ls (.ref (if tK v (pB v q) < tK v (pA v q) then gA g 4 else gA g 5) :: [])) rfl ?_
  by_cases hf1 : tK v (pB v q) < tK v (pA v q)
  · refine W.eq (g2 := F0 m_ 5 ls (.ref (gA g 4) :: [])) (by rw [if_pos hf1]) ?_
    refine lv_aload_n F.x F.cd dX2_signedLitres_5 rfl (lv_at hl 0 rfl) ?_
    refine lv_aload_n F.x F.cd dX2_signedLitres_6 rfl (lv_at hl 1 rfl) ?_
    refine s_callV (As := [.ref (L (100 + q))]) (rest := [.ref (gA g 4)]) (C := RX2) (T := TX2) (N := 6) (n := 1) F hW (k_X2_litres g l σ L v q hWk hI (by omega)) (hWk.1) rfl q1298 q1299 q1300 q69 q1301 rfl (by decide +kernel) rfl ⟨⟨Nat.le_of_ble_eq_true rfl, Nat.le_of_ble_eq_true rfl⟩, ⟨(Nat.le_of_ble_eq_true rfl), (Nat.le_of_ble_eq_true rfl)⟩⟩ (Nat.le_of_ble_eq_true rfl) hl.1 rfl dX2_signedLitres_7 cX_no (fun r2 σ2 H locs hp2 hW => ?_)
    obtain ⟨rfl, hs2⟩ := hp2
    rw [hs2] at hW
    have hlt2 := lit_le hI (show q < v 1 by omega)
    refine W.eq (g2 := F0 m_ 10 ls (.int (nI (lit v q)) :: .ref (gA g 4) :: [])) rfl ?_
    refine s_callB (owner := "FilterWaterworks$Direction") (As := [.int (nI (lit v q))]) (rest := []) (C := RX15) (T := TX4) (N := 0) (n := 1) F hW (k_X15_signed g l σ (gA g 4) (nI (lit v q))) (hW.1.old F.cs F.cs.2.2.2.2.2.1) rfl q1668 q1670 q1671 q1672 q1673 q1669 (by decide +kernel) rfl ⟨⟨Nat.le_of_ble_eq_true rfl, Nat.le_of_ble_eq_true rfl⟩, ⟨(Nat.le_of_ble_eq_true rfl), (Nat.le_of_ble_eq_true rfl)⟩⟩ (Nat.le_of_ble_eq_true rfl) hl.1 rfl dX2_signedLitres_10 cX_no (fun r3 σ3 H locs hp3 hW => ?_)
    obtain ⟨rfl, hs3⟩ := hp3
    rw [hs3] at hW
    refine W.eq (g2 := F0 m_ 13 ls (.int (nI (lit v q)) :: [])) rfl ?_
    subst hQ
    exact s_reti (v := (nI (lit v q))) F hW rfl (⟨by rw [lits, if_pos hf1], rfl⟩) ⟨(Nat.le_of_ble_eq_true rfl), (Nat.le_of_ble_eq_true rfl)⟩ dX2_signedLitres_13
  · refine W.eq (g2 := F0 m_ 5 ls (.ref (gA g 5) :: [])) (by rw [if_neg hf1]) ?_
    refine lv_aload_n F.x F.cd dX2_signedLitres_5 rfl (lv_at hl 0 rfl) ?_
    refine lv_aload_n F.x F.cd dX2_signedLitres_6 rfl (lv_at hl 1 rfl) ?_
    refine s_callV (As := [.ref (L (100 + q))]) (rest := [.ref (gA g 5)]) (C := RX2) (T := TX2) (N := 6) (n := 1) F hW (k_X2_litres g l σ L v q hWk hI (by omega)) (hWk.1) rfl q1298 q1299 q1300 q69 q1301 rfl (by decide +kernel) rfl ⟨⟨Nat.le_of_ble_eq_true rfl, Nat.le_of_ble_eq_true rfl⟩, ⟨(Nat.le_of_ble_eq_true rfl), (Nat.le_of_ble_eq_true rfl)⟩⟩ (Nat.le_of_ble_eq_true rfl) hl.1 rfl dX2_signedLitres_7 cX_no (fun r4 σ4 H locs hp4 hW => ?_)
    obtain ⟨rfl, hs4⟩ := hp4
    rw [hs4] at hW
    have hlt4 := lit_le hI (show q < v 1 by omega)
    refine W.eq (g2 := F0 m_ 10 ls (.int (nI (lit v q)) :: .ref (gA g 5) :: [])) rfl ?_
    refine s_callB (owner := "FilterWaterworks$Direction") (As := [.int (nI (lit v q))]) (rest := []) (C := RX16) (T := TX4) (N := 0) (n := 1) F hW (k_X16_signed g l σ (gA g 5) (nI (lit v q))) (hW.1.old F.cs F.cs.2.2.2.2.2.2.1) rfl q1668 q1670 q1674 q1675 q1676 q1669 (by decide +kernel) rfl ⟨⟨Nat.le_of_ble_eq_true rfl, Nat.le_of_ble_eq_true rfl⟩, ⟨(Nat.le_of_ble_eq_true rfl), (Nat.le_of_ble_eq_true rfl)⟩⟩ (Nat.le_of_ble_eq_true rfl) hl.1 rfl dX2_signedLitres_10 cX_no (fun r5 σ5 H locs hp5 hW => ?_)
    obtain ⟨rfl, hs5⟩ := hp5
    rw [hs5] at hW
    refine W.eq (g2 := F0 m_ 13 ls (.int (-(nI (lit v q))) :: [])) rfl ?_
    subst hQ
    exact s_reti (v := (-(nI (lit v q)))) F hW rfl (⟨by rw [lits, if_neg hf1], rfl⟩) ⟨(Nat.le_of_ble_eq_true rfl), (Nat.le_of_ble_eq_true rfl)⟩ dX2_signedLitres_13
set_option maxHeartbeats 4000000 in
theorem k_X2_totalContentByAccounts (g : Gh) (l : Launch) (σ : Sto) (L v : Nat → Nat) (hWk : IsWorks g σ L v) (hI : Inv v) : Ct g l yX2_totalContentByAccounts cX2_totalContentByAccounts 1 (some .int) ({ frames := 0, cells := 0, slots := 0, locals := 0 } : Room) [.ref (L 0)] σ (fun r σ' => r = some (.int (nI (sumK v (v 0)))) ∧ σ' = σ) (nox) := by
  refine Ct.body (by decide) (Nat.le_of_ble_eq_true rfl) ?_
  intro p_ e_ s_ m_ args_ below_ meth_ c_ ls H locs Q F hW hl hQ
  have hl : lv_has ls 1 [(0, .ref (L 0))] := hl
  have hT := hWk.2.2.1
  have hP := hWk.2.2.2.1
  obtain ⟨mcT, nT, fT, eT, bT, -⟩ := id hT
  obtain ⟨mcP, nP, fP, eP, bP, -⟩ := id hP
  have hv0 := hI.1
  have hv1 := hI.2.1
  refine lv_aload_n F.x F.cd dX2_totalContentByAccounts_0 rfl (lv_at hl 0 rfl) ?_
  refine s_get F hW (ci := 1) (C := RX2) (T := TX2) (N := 6) (v := .int (nI (v 3))) (hWk.1) rfl in_X2 3 (by decide) q168 (fun _ h9 => h9) rfl dX2_totalContentByAccounts_1 ?_
  refine lv_aload_n F.x F.cd dX2_totalContentByAccounts_4 rfl (lv_at hl 0 rfl) ?_
  refine s_get F hW (ci := 1) (C := RX2) (T := TX2) (N := 6) (v := .int (nI (v 4))) (hWk.1) rfl in_X2 4 (by decide) q170 (fun _ h9 => h9) rfl dX2_totalContentByAccounts_5 ?_
  refine a_isub (v := (nI (v 3) - nI (v 4))) F (rfl) dX2_totalContentByAccounts_8 ?_
  refine lv_aload_n F.x F.cd dX2_totalContentByAccounts_9 rfl (lv_at hl 0 rfl) ?_
  refine s_get F hW (ci := 1) (C := RX2) (T := TX2) (N := 6) (v := .int (nI (v 5))) (hWk.1) rfl in_X2 5 (by decide) q172 (fun _ h9 => h9) rfl dX2_totalContentByAccounts_10 ?_
  refine a_isub (v := (nI (sumK v (v 0)))) F (acc_sum hI) dX2_totalContentByAccounts_13 ?_
  subst hQ
  exact s_reti (v := (nI (sumK v (v 0)))) F hW rfl (⟨rfl, rfl⟩) ⟨(Nat.le_of_ble_eq_true rfl), (Nat.le_of_ble_eq_true rfl)⟩ dX2_totalContentByAccounts_14
set_option maxHeartbeats 4000000 in
theorem k_X2_totalContent (g : Gh) (l : Launch) (σ : Sto) (L v : Nat → Nat) (hWk : IsWorks g σ L v) (hI : Inv v) : Ct g l yX2_totalContent cX2_totalContent 3 (some .int) ({ frames := 3, cells := 0, slots := 0, locals := 64 } : Room) [.ref (L 0)] σ (fun r σ' => r = some (.int (nI (sumK v (v 0)))) ∧ σ' = σ) (nox) := by
  refine Ct.body (by decide) (Nat.le_of_ble_eq_true rfl) ?_
  intro p_ e_ s_ m_ args_ below_ meth_ c_ ls H locs Q F hW hl hQ
  have hl : lv_has ls 3 [(0, .ref (L 0))] := hl
  have hT := hWk.2.2.1
  have hP := hWk.2.2.2.1
  obtain ⟨mcT, nT, fT, eT, bT, -⟩ := id hT
  obtain ⟨mcP, nP, fP, eP, bP, -⟩ := id hP
  have hv0 := hI.1
  have hv1 := hI.2.1
  refine lv_iconst (v := (nI 0)) F.x F.cd dX2_totalContent_0 (by decide) ?_
  refine lv_istore_n (lv' := [(1, .int (nI 0)), (0, .ref (L 0))]) F.x F.cd dX2_totalContent_1 rfl hl (by decide) rfl (fun ls hl => ?_)
  refine lv_iconst (v := (nI 0)) F.x F.cd dX2_totalContent_2 (by decide) ?_
  refine lv_istore_n (lv' := [(2, .int (nI 0)), (1, .int (nI 0)), (0, .ref (L 0))]) F.x F.cd dX2_totalContent_3 rfl hl (by decide) rfl (fun ls hl => ?_)
  have loop4 : ∀ (n : Nat) (k : Nat), k + n = v 0 → ∀ (H : Heap) (locs : List Loc) (ls : Array Slot), Hl g σ H locs → lv_has ls 3 [(0, .ref (L 0)), (1, .int (nI (sumK v k))), (2, .int (nI k))] → W p_ l e_ ({ frames := 3, cells := 0, slots := 0, locals := 64 } : Room) s_ m_ args_ below_ meth_ c_ H locs 0 0 Q (F0 m_ 4 ls ([])) := by
    intro n
    induction n with
    | zero =>
      intro k hkn  H locs ls hW hl
      refine lv_iload_n F.x F.cd dX2_totalContent_4 rfl (lv_at hl 2 rfl) ?_
      refine lv_aload_n F.x F.cd dX2_totalContent_5 rfl (lv_at hl 0 rfl) ?_
      refine s_get F hW (ci := 1) (C := RX2) (T := TX2) (N := 6) (v := .ref (L 1)) (hWk.1) rfl in_X2 0 (by decide) q159 (fun _ h9 => h9) rfl dX2_totalContent_6 ?_
      refine s_callF (As := []) (rest := [.int (nI k)]) (C := RJ2) (T := TJ2) (N := 3) (n := 0) F hW (k_J2_size g l σ _ _ _ _ hT) (eT) rfl (List.mem_of_getElem? (i := 0) rfl) q317 q272 q274 q72 q276 (by decide +kernel) rfl ⟨⟨Nat.le_of_ble_eq_true rfl, Nat.le_of_ble_eq_true rfl⟩, ⟨(Nat.le_of_ble_eq_true rfl), (Nat.le_of_ble_eq_true rfl)⟩⟩ (Nat.le_of_ble_eq_true rfl) hl.1 rfl dX2_totalContent_9 cX_no (fun r1 σ1 H locs hp1 hW => ?_)
      obtain ⟨rfl, hs1⟩ := hp1
      rw [hs1] at hW
      refine W.eq (g2 := F0 m_ 14 ls (.int (nI (v 0)) :: .int (nI k) :: [])) rfl ?_
      refine n_icmp_ge (a := k) (b := v 0) (tgt := 42) F (by omega) (by omega) dX2_totalContent_14 (by decide) (fun c_14 => ?_) (fun c_14 => ?_)
      · refine lv_iload_n F.x F.cd dX2_totalContent_42 rfl (lv_at hl 1 rfl) ?_
        subst hQ
        exact s_reti (v := (nI (sumK v k))) F hW rfl (⟨by rw [show k = v 0 by omega], rfl⟩) ⟨(Nat.le_of_ble_eq_true rfl), (Nat.le_of_ble_eq_true rfl)⟩ dX2_totalContent_43
      · exact absurd c_14 (by omega)
    | succ n ih4 =>
      intro k hkn  H locs ls hW hl
      refine lv_iload_n F.x F.cd dX2_totalContent_4 rfl (lv_at hl 2 rfl) ?_
      refine lv_aload_n F.x F.cd dX2_totalContent_5 rfl (lv_at hl 0 rfl) ?_
      refine s_get F hW (ci := 1) (C := RX2) (T := TX2) (N := 6) (v := .ref (L 1)) (hWk.1) rfl in_X2 0 (by decide) q159 (fun _ h9 => h9) rfl dX2_totalContent_6 ?_
      refine s_callF (As := []) (rest := [.int (nI k)]) (C := RJ2) (T := TJ2) (N := 3) (n := 0) F hW (k_J2_size g l σ _ _ _ _ hT) (eT) rfl (List.mem_of_getElem? (i := 0) rfl) q317 q272 q274 q72 q276 (by decide +kernel) rfl ⟨⟨Nat.le_of_ble_eq_true rfl, Nat.le_of_ble_eq_true rfl⟩, ⟨(Nat.le_of_ble_eq_true rfl), (Nat.le_of_ble_eq_true rfl)⟩⟩ (Nat.le_of_ble_eq_true rfl) hl.1 rfl dX2_totalContent_9 cX_no (fun r2 σ2 H locs hp2 hW => ?_)
      obtain ⟨rfl, hs2⟩ := hp2
      rw [hs2] at hW
      refine W.eq (g2 := F0 m_ 14 ls (.int (nI (v 0)) :: .int (nI k) :: [])) rfl ?_
      refine n_icmp_ge (a := k) (b := v 0) (tgt := 42) F (by omega) (by omega) dX2_totalContent_14 (by decide) (fun c_14 => ?_) (fun c_14 => ?_)
      · exact absurd c_14 (by omega)
      · refine lv_iload_n F.x F.cd dX2_totalContent_17 rfl (lv_at hl 1 rfl) ?_
        refine lv_aload_n F.x F.cd dX2_totalContent_18 rfl (lv_at hl 0 rfl) ?_
        refine s_get F hW (ci := 1) (C := RX2) (T := TX2) (N := 6) (v := .ref (L 1)) (hWk.1) rfl in_X2 0 (by decide) q159 (fun _ h9 => h9) rfl dX2_totalContent_19 ?_
        refine lv_iload_n F.x F.cd dX2_totalContent_22 rfl (lv_at hl 2 rfl) ?_
        refine s_callF (As := [.int (nI k)]) (rest := [.int (nI (sumK v k))]) (C := RJ2) (T := TJ2) (N := 3) (n := 1) F hW (k_J2_get g l σ _ _ _ _ k hT (by omega)) (eT) rfl (List.mem_of_getElem? (i := 1) rfl) q693 q328 q330 q72 q332 (by decide +kernel) rfl ⟨⟨Nat.le_of_ble_eq_true rfl, Nat.le_of_ble_eq_true rfl⟩, ⟨(Nat.le_of_ble_eq_true rfl), (Nat.le_of_ble_eq_true rfl)⟩⟩ (Nat.le_of_ble_eq_true rfl) hl.1 rfl dX2_totalContent_23 cX_no (fun r3 σ3 H locs hp3 hW => ?_)
        obtain ⟨rfl, hs3⟩ := hp3
        rw [hs3] at hW
        refine W.eq (g2 := F0 m_ 28 ls (.ref (L (10 + k)) :: .int (nI (sumK v k)) :: [])) rfl ?_
        refine s_cast_ F hW (C := RX4) (T := TX4) (N := 3) ((hWk.2.2.2.2.1 k (by omega)).1) rfl q790 dX2_totalContent_28 ?_
        refine s_getN F hW (ci := 8) (C := RX4) (T := TX4) (N := 3) (v := .int (nI (tK v k))) ((hWk.2.2.2.2.1 k (by omega)).1) rfl in_X4 1 (by decide) q951 (fun _ h9 => h9) rfl dX2_totalContent_31 ?_
        refine a_iadd (v := (nI (sumK v k + (tK v k)))) F (nI_add _ _) dX2_totalContent_34 ?_
        refine lv_istore_n (lv' := [(1, .int (nI (sumK v k + (tK v k)))), (0, .ref (L 0)), (2, .int (nI k))]) F.x F.cd dX2_totalContent_35 rfl hl (by decide) rfl (fun ls hl => ?_)
        refine lv_iinc (k := 2) (v := (nI (k + 1))) (lv' := [(2, .int (nI (k + 1))), (1, .int (nI (sumK v k + (tK v k)))), (0, .ref (L 0))]) F.x F.cd dX2_totalContent_36 hl rfl (inc_nI k 1) (by decide) rfl (fun ls hl => ?_)
        refine lv_goto (tgt := 4) F.x F.cd dX2_totalContent_39 (by decide) ?_
        exact ih4 (k + 1) (by omega)  H locs ls hW (lv_sub hl [2, 1, 0] rfl)
  exact loop4 (v 0) 0 (by omega)  H locs ls hW (lv_sub hl [2, 1, 0] rfl)
set_option maxHeartbeats 4000000 in
theorem k_X2_isStill (g : Gh) (l : Launch) (σ : Sto) (L v : Nat → Nat) (hWk : IsWorks g σ L v) (hI : Inv v) : Ct g l yX2_isStill cX2_isStill 3 (some .boolean) ({ frames := 5, cells := 0, slots := 0, locals := 111 } : Room) [.ref (L 0)] σ (fun r σ' => r = some (.int (bI (stillN v (v 1)))) ∧ σ' = σ) (nox) := by
  refine Ct.body (by decide) (Nat.le_of_ble_eq_true rfl) ?_
  intro p_ e_ s_ m_ args_ below_ meth_ c_ ls H locs Q F hW hl hQ
  have hl : lv_has ls 3 [(0, .ref (L 0))] := hl
  have hT := hWk.2.2.1
  have hP := hWk.2.2.2.1
  obtain ⟨mcT, nT, fT, eT, bT, -⟩ := id hT
  obtain ⟨mcP, nP, fP, eP, bP, -⟩ := id hP
  have hv0 := hI.1
  have hv1 := hI.2.1
  refine lv_iconst (v := (nI 1)) F.x F.cd dX2_isStill_0 (by decide) ?_
  refine lv_istore_n (lv' := [(1, .int (nI 1)), (0, .ref (L 0))]) F.x F.cd dX2_isStill_1 rfl hl (by decide) rfl (fun ls hl => ?_)
  refine lv_iconst (v := (nI 0)) F.x F.cd dX2_isStill_2 (by decide) ?_
  refine lv_istore_n (lv' := [(2, .int (nI 0)), (1, .int (nI 1)), (0, .ref (L 0))]) F.x F.cd dX2_isStill_3 rfl hl (by decide) rfl (fun ls hl => ?_)
  have loop4 : ∀ (n : Nat) (k : Nat), k + n = v 1 → ∀ (H : Heap) (locs : List Loc) (ls : Array Slot), Hl g σ H locs → lv_has ls 3 [(0, .ref (L 0)), (1, .int (bI (stillN v k))), (2, .int (nI k))] → W p_ l e_ ({ frames := 5, cells := 0, slots := 0, locals := 111 } : Room) s_ m_ args_ below_ meth_ c_ H locs 0 0 Q (F0 m_ 4 ls ([])) := by
    intro n
    induction n with
    | zero =>
      intro k hkn  H locs ls hW hl
      refine lv_iload_n F.x F.cd dX2_isStill_4 rfl (lv_at hl 2 rfl) ?_
      refine lv_aload_n F.x F.cd dX2_isStill_5 rfl (lv_at hl 0 rfl) ?_
      refine s_get F hW (ci := 1) (C := RX2) (T := TX2) (N := 6) (v := .ref (L 2)) (hWk.1) rfl in_X2 1 (by decide) q162 (fun _ h9 => h9) rfl dX2_isStill_6 ?_
      refine s_callF (As := []) (rest := [.int (nI k)]) (C := RJ2) (T := TJ2) (N := 3) (n := 0) F hW (k_J2_size g l σ _ _ _ _ hP) (eP) rfl (List.mem_of_getElem? (i := 0) rfl) q317 q272 q274 q72 q276 (by decide +kernel) rfl ⟨⟨Nat.le_of_ble_eq_true rfl, Nat.le_of_ble_eq_true rfl⟩, ⟨(Nat.le_of_ble_eq_true rfl), (Nat.le_of_ble_eq_true rfl)⟩⟩ (Nat.le_of_ble_eq_true rfl) hl.1 rfl dX2_isStill_9 cX_no (fun r1 σ1 H locs hp1 hW => ?_)
      obtain ⟨rfl, hs1⟩ := hp1
      rw [hs1] at hW
      refine W.eq (g2 := F0 m_ 14 ls (.int (nI (v 1)) :: .int (nI k) :: [])) rfl ?_
      refine n_icmp_ge (a := k) (b := v 1) (tgt := 53) F (by omega) (by omega) dX2_isStill_14 (by decide) (fun c_14 => ?_) (fun c_14 => ?_)
      · refine lv_iload_n F.x F.cd dX2_isStill_53 rfl (lv_at hl 1 rfl) ?_
        subst hQ
        exact s_reti (v := (bI (stillN v k))) F hW (nar_bI _) (⟨by rw [show k = v 1 by omega], rfl⟩) ⟨(Nat.le_of_ble_eq_true rfl), (Nat.le_of_ble_eq_true rfl)⟩ dX2_isStill_54
      · exact absurd c_14 (by omega)
    | succ n ih4 =>
      intro k hkn  H locs ls hW hl
      refine lv_iload_n F.x F.cd dX2_isStill_4 rfl (lv_at hl 2 rfl) ?_
      refine lv_aload_n F.x F.cd dX2_isStill_5 rfl (lv_at hl 0 rfl) ?_
      refine s_get F hW (ci := 1) (C := RX2) (T := TX2) (N := 6) (v := .ref (L 2)) (hWk.1) rfl in_X2 1 (by decide) q162 (fun _ h9 => h9) rfl dX2_isStill_6 ?_
      refine s_callF (As := []) (rest := [.int (nI k)]) (C := RJ2) (T := TJ2) (N := 3) (n := 0) F hW (k_J2_size g l σ _ _ _ _ hP) (eP) rfl (List.mem_of_getElem? (i := 0) rfl) q317 q272 q274 q72 q276 (by decide +kernel) rfl ⟨⟨Nat.le_of_ble_eq_true rfl, Nat.le_of_ble_eq_true rfl⟩, ⟨(Nat.le_of_ble_eq_true rfl), (Nat.le_of_ble_eq_true rfl)⟩⟩ (Nat.le_of_ble_eq_true rfl) hl.1 rfl dX2_isStill_9 cX_no (fun r2 σ2 H locs hp2 hW => ?_)
      obtain ⟨rfl, hs2⟩ := hp2
      rw [hs2] at hW
      refine W.eq (g2 := F0 m_ 14 ls (.int (nI (v 1)) :: .int (nI k) :: [])) rfl ?_
      refine n_icmp_ge (a := k) (b := v 1) (tgt := 53) F (by omega) (by omega) dX2_isStill_14 (by decide) (fun c_14 => ?_) (fun c_14 => ?_)
      · exact absurd c_14 (by omega)
      · refine lv_iload_n F.x F.cd dX2_isStill_17 rfl (lv_at hl 1 rfl) ?_
        refine b_if_eq (b := (stillN v k)) (tgt := 45) F dX2_isStill_18 (by decide) (fun c_18 => ?_) (fun c_18 => ?_)
        · refine lv_iconst (v := (nI 0)) F.x F.cd dX2_isStill_45 (by decide) ?_
          refine W.eq (g2 := F0 m_ 46 ls (.int (bI (stillN v (k + 1))) :: [])) (by rw [show stillN v (k + 1) = false by simp [stillN, c_18]]; rfl) ?_
          refine lv_istore_n (lv' := [(1, .int (bI (stillN v (k + 1)))), (0, .ref (L 0)), (2, .int (nI k))]) F.x F.cd dX2_isStill_46 rfl hl (by decide) rfl (fun ls hl => ?_)
          refine lv_iinc (k := 2) (v := (nI (k + 1))) (lv' := [(2, .int (nI (k + 1))), (1, .int (bI (stillN v (k + 1)))), (0, .ref (L 0))]) F.x F.cd dX2_isStill_47 hl rfl (inc_nI k 1) (by decide) rfl (fun ls hl => ?_)
          refine lv_goto (tgt := 4) F.x F.cd dX2_isStill_50 (by decide) ?_
          exact ih4 (k + 1) (by omega)  H locs ls hW (lv_sub hl [2, 1, 0] rfl)
        · refine lv_aload_n F.x F.cd dX2_isStill_21 rfl (lv_at hl 0 rfl) ?_
          refine lv_aload_n F.x F.cd dX2_isStill_22 rfl (lv_at hl 0 rfl) ?_
          refine s_get F hW (ci := 1) (C := RX2) (T := TX2) (N := 6) (v := .ref (L 2)) (hWk.1) rfl in_X2 1 (by decide) q162 (fun _ h9 => h9) rfl dX2_isStill_23 ?_
          refine lv_iload_n F.x F.cd dX2_isStill_26 rfl (lv_at hl 2 rfl) ?_
          refine s_callF (As := [.int (nI k)]) (rest := [.ref (L 0)]) (C := RJ2) (T := TJ2) (N := 3) (n := 1) F hW (k_J2_get g l σ _ _ _ _ k hP (by omega)) (eP) rfl (List.mem_of_getElem? (i := 1) rfl) q693 q328 q330 q72 q332 (by decide +kernel) rfl ⟨⟨Nat.le_of_ble_eq_true rfl, Nat.le_of_ble_eq_true rfl⟩, ⟨(Nat.le_of_ble_eq_true rfl), (Nat.le_of_ble_eq_true rfl)⟩⟩ (Nat.le_of_ble_eq_true rfl) hl.1 rfl dX2_isStill_27 cX_no (fun r3 σ3 H locs hp3 hW => ?_)
          obtain ⟨rfl, hs3⟩ := hp3
          rw [hs3] at hW
          refine W.eq (g2 := F0 m_ 32 ls (.ref (L (100 + k)) :: .ref (L 0) :: [])) rfl ?_
          refine s_cast_ F hW (C := RX5) (T := TX5) (N := 7) ((hWk.2.2.2.2.2.1 k (by omega)).1) rfl q694 dX2_isStill_32 ?_
          refine s_callV (As := [.ref (L (100 + k))]) (rest := []) (C := RX2) (T := TX2) (N := 6) (n := 1) F hW (k_X2_litres g l σ L v k hWk hI (by omega)) (hWk.1) rfl q1298 q1299 q1300 q69 q1301 rfl (by decide +kernel) rfl ⟨⟨Nat.le_of_ble_eq_true rfl, Nat.le_of_ble_eq_true rfl⟩, ⟨(Nat.le_of_ble_eq_true rfl), (Nat.le_of_ble_eq_true rfl)⟩⟩ (Nat.le_of_ble_eq_true rfl) hl.1 rfl dX2_isStill_35 cX_no (fun r4 σ4 H locs hp4 hW => ?_)
          obtain ⟨rfl, hs4⟩ := hp4
          rw [hs4] at hW
          have hlt4 := lit_le hI (show k < v 1 by omega)
          refine W.eq (g2 := F0 m_ 38 ls (.int (nI (lit v k)) :: [])) rfl ?_
          refine n_if_ne (a := lit v k) (tgt := 45) F (by omega) dX2_isStill_38 (by decide) (fun c_38 => ?_) (fun c_38 => ?_)
          · refine lv_iconst (v := (nI 0)) F.x F.cd dX2_isStill_45 (by decide) ?_
            refine W.eq (g2 := F0 m_ 46 ls (.int (bI (stillN v (k + 1))) :: [])) (by rw [show stillN v (k + 1) = false by simp [stillN, c_18, c_38]]; rfl) ?_
            refine lv_istore_n (lv' := [(1, .int (bI (stillN v (k + 1)))), (0, .ref (L 0)), (2, .int (nI k))]) F.x F.cd dX2_isStill_46 rfl hl (by decide) rfl (fun ls hl => ?_)
            refine lv_iinc (k := 2) (v := (nI (k + 1))) (lv' := [(2, .int (nI (k + 1))), (1, .int (bI (stillN v (k + 1)))), (0, .ref (L 0))]) F.x F.cd dX2_isStill_47 hl rfl (inc_nI k 1) (by decide) rfl (fun ls hl => ?_)
            refine lv_goto (tgt := 4) F.x F.cd dX2_isStill_50 (by decide) ?_
            exact ih4 (k + 1) (by omega)  H locs ls hW (lv_sub hl [2, 1, 0] rfl)
          · refine lv_iconst (v := (nI 1)) F.x F.cd dX2_isStill_41 (by decide) ?_
            refine lv_goto (tgt := 46) F.x F.cd dX2_isStill_42 (by decide) ?_
            refine W.eq (g2 := F0 m_ 46 ls (.int (bI (stillN v (k + 1))) :: [])) (by rw [show stillN v (k + 1) = true by simp [stillN, c_18, c_38]]; rfl) ?_
            refine lv_istore_n (lv' := [(1, .int (bI (stillN v (k + 1)))), (0, .ref (L 0)), (2, .int (nI k))]) F.x F.cd dX2_isStill_46 rfl hl (by decide) rfl (fun ls hl => ?_)
            refine lv_iinc (k := 2) (v := (nI (k + 1))) (lv' := [(2, .int (nI (k + 1))), (1, .int (bI (stillN v (k + 1)))), (0, .ref (L 0))]) F.x F.cd dX2_isStill_47 hl rfl (inc_nI k 1) (by decide) rfl (fun ls hl => ?_)
            refine lv_goto (tgt := 4) F.x F.cd dX2_isStill_50 (by decide) ?_
            exact ih4 (k + 1) (by omega)  H locs ls hW (lv_sub hl [2, 1, 0] rfl)
  exact loop4 (v 1) 0 (by omega)  H locs ls hW (lv_sub hl [2, 1, 0] rfl)
set_option maxHeartbeats 4000000 in
theorem k_X2_tankAt (g : Gh) (l : Launch) (σ : Sto) (L v : Nat → Nat) (rk : Int32) (hWk : IsWorks g σ L v) (hI : Inv v) : Ct g l yX2_tankAt cX2_tankAt 6 (some .int) ({ frames := 3, cells := 0, slots := 0, locals := 64 } : Room) [.ref (L 0), .int rk] σ (fun r σ' => r = some (.int (findT v rk 0 (v 0))) ∧ σ' = σ) (nox) := by
  refine Ct.body (by decide) (Nat.le_of_ble_eq_true rfl) ?_
  intro p_ e_ s_ m_ args_ below_ meth_ c_ ls H locs Q F hW hl hQ
  have hl : lv_has ls 6 [(0, .ref (L 0)), (1, .int rk)] := hl
  have hT := hWk.2.2.1
  have hP := hWk.2.2.2.1
  obtain ⟨mcT, nT, fT, eT, bT, -⟩ := id hT
  obtain ⟨mcP, nP, fP, eP, bP, -⟩ := id hP
  have hv0 := hI.1
  have hv1 := hI.2.1
  refine lv_iconst (v := (nI 0)) F.x F.cd dX2_tankAt_0 (by decide) ?_
  refine lv_istore_n (lv' := [(2, .int (nI 0)), (0, .ref (L 0)), (1, .int rk)]) F.x F.cd dX2_tankAt_1 rfl hl (by decide) rfl (fun ls hl => ?_)
  have loop2 : ∀ (n : Nat) (k : Nat), k + n = v 0 → findT v rk k n = findT v rk 0 (v 0) → ∀ (H : Heap) (locs : List Loc) (ls : Array Slot), Hl g σ H locs → lv_has ls 6 [(0, .ref (L 0)), (1, .int rk), (2, .int (nI k))] → W p_ l e_ ({ frames := 3, cells := 0, slots := 0, locals := 64 } : Room) s_ m_ args_ below_ meth_ c_ H locs 0 0 Q (F0 m_ 2 ls ([])) := by
    intro n
    induction n with
    | zero =>
      intro k hkn hfd H locs ls hW hl
      refine lv_iload_n F.x F.cd dX2_tankAt_2 rfl (lv_at hl 2 rfl) ?_
      refine lv_aload_n F.x F.cd dX2_tankAt_3 rfl (lv_at hl 0 rfl) ?_
      refine s_get F hW (ci := 1) (C := RX2) (T := TX2) (N := 6) (v := .ref (L 1)) (hWk.1) rfl in_X2 0 (by decide) q159 (fun _ h9 => h9) rfl dX2_tankAt_4 ?_
      refine s_callF (As := []) (rest := [.int (nI k)]) (C := RJ2) (T := TJ2) (N := 3) (n := 0) F hW (k_J2_size g l σ _ _ _ _ hT) (eT) rfl (List.mem_of_getElem? (i := 0) rfl) q317 q272 q274 q72 q276 (by decide +kernel) rfl ⟨⟨Nat.le_of_ble_eq_true rfl, Nat.le_of_ble_eq_true rfl⟩, ⟨(Nat.le_of_ble_eq_true rfl), (Nat.le_of_ble_eq_true rfl)⟩⟩ (Nat.le_of_ble_eq_true rfl) hl.1 rfl dX2_tankAt_7 cX_no (fun r1 σ1 H locs hp1 hW => ?_)
      obtain ⟨rfl, hs1⟩ := hp1
      rw [hs1] at hW
      refine W.eq (g2 := F0 m_ 12 ls (.int (nI (v 0)) :: .int (nI k) :: [])) rfl ?_
      refine n_icmp_ge (a := k) (b := v 0) (tgt := 137) F (by omega) (by omega) dX2_tankAt_12 (by decide) (fun c_12 => ?_) (fun c_12 => ?_)
      · refine lv_iconst (v := (-1 : Int32)) F.x F.cd dX2_tankAt_137 (by decide) ?_
        subst hQ
        exact s_reti (v := (-1 : Int32)) F hW rfl (⟨by rw [← hfd]; rfl, rfl⟩) ⟨(Nat.le_of_ble_eq_true rfl), (Nat.le_of_ble_eq_true rfl)⟩ dX2_tankAt_138
      · exact absurd c_12 (by omega)
    | succ n ih2 =>
      intro k hkn hfd H locs ls hW hl
      refine lv_iload_n F.x F.cd dX2_tankAt_2 rfl (lv_at hl 2 rfl) ?_
      refine lv_aload_n F.x F.cd dX2_tankAt_3 rfl (lv_at hl 0 rfl) ?_
      refine s_get F hW (ci := 1) (C := RX2) (T := TX2) (N := 6) (v := .ref (L 1)) (hWk.1) rfl in_X2 0 (by decide) q159 (fun _ h9 => h9) rfl dX2_tankAt_4 ?_
      refine s_callF (As := []) (rest := [.int (nI k)]) (C := RJ2) (T := TJ2) (N := 3) (n := 0) F hW (k_J2_size g l σ _ _ _ _ hT) (eT) rfl (List.mem_of_getElem? (i := 0) rfl) q317 q272 q274 q72 q276 (by decide +kernel) rfl ⟨⟨Nat.le_of_ble_eq_true rfl, Nat.le_of_ble_eq_true rfl⟩, ⟨(Nat.le_of_ble_eq_true rfl), (Nat.le_of_ble_eq_true rfl)⟩⟩ (Nat.le_of_ble_eq_true rfl) hl.1 rfl dX2_tankAt_7 cX_no (fun r2 σ2 H locs hp2 hW => ?_)
      obtain ⟨rfl, hs2⟩ := hp2
      rw [hs2] at hW
      refine W.eq (g2 := F0 m_ 12 ls (.int (nI (v 0)) :: .int (nI k) :: [])) rfl ?_
      refine n_icmp_ge (a := k) (b := v 0) (tgt := 137) F (by omega) (by omega) dX2_tankAt_12 (by decide) (fun c_12 => ?_) (fun c_12 => ?_)
      · exact absurd c_12 (by omega)
      · refine lv_iconst (v := (nI 0)) F.x F.cd dX2_tankAt_15 (by decide) ?_
        refine lv_istore_n (lv' := [(3, .int (nI 0)), (0, .ref (L 0)), (1, .int rk), (2, .int (nI k))]) F.x F.cd dX2_tankAt_16 rfl hl (by decide) rfl (fun ls hl => ?_)
        refine lv_iconst (v := (nI 0)) F.x F.cd dX2_tankAt_17 (by decide) ?_
        refine lv_istore (lv' := [(4, .int (nI 0)), (3, .int (nI 0)), (0, .ref (L 0)), (1, .int rk), (2, .int (nI k))]) F.x F.cd dX2_tankAt_18 hl (by decide) rfl (fun ls hl => ?_)
        have loop20 : ∀ (z : Nat) (j : Nat), j + z = v 0 → ∀ (H : Heap) (locs : List Loc) (ls : Array Slot), Hl g σ H locs → lv_has ls 6 [(0, .ref (L 0)), (1, .int rk), (2, .int (nI k)), (3, .int (nI (aheadN v k j))), (4, .int (nI j))] → W p_ l e_ ({ frames := 3, cells := 0, slots := 0, locals := 64 } : Room) s_ m_ args_ below_ meth_ c_ H locs 0 0 Q (F0 m_ 20 ls ([])) := by
          intro z
          induction z with
          | zero =>
            intro j hkz  H locs ls hW hl
            refine lv_iload F.x F.cd dX2_tankAt_20 (lv_at hl 4 rfl) ?_
            refine lv_aload_n F.x F.cd dX2_tankAt_22 rfl (lv_at hl 0 rfl) ?_
            refine s_get F hW (ci := 1) (C := RX2) (T := TX2) (N := 6) (v := .ref (L 1)) (hWk.1) rfl in_X2 0 (by decide) q159 (fun _ h9 => h9) rfl dX2_tankAt_23 ?_
            refine s_callF (As := []) (rest := [.int (nI j)]) (C := RJ2) (T := TJ2) (N := 3) (n := 0) F hW (k_J2_size g l σ _ _ _ _ hT) (eT) rfl (List.mem_of_getElem? (i := 0) rfl) q317 q272 q274 q72 q276 (by decide +kernel) rfl ⟨⟨Nat.le_of_ble_eq_true rfl, Nat.le_of_ble_eq_true rfl⟩, ⟨(Nat.le_of_ble_eq_true rfl), (Nat.le_of_ble_eq_true rfl)⟩⟩ (Nat.le_of_ble_eq_true rfl) hl.1 rfl dX2_tankAt_26 cX_no (fun r3 σ3 H locs hp3 hW => ?_)
            obtain ⟨rfl, hs3⟩ := hp3
            rw [hs3] at hW
            refine W.eq (g2 := F0 m_ 31 ls (.int (nI (v 0)) :: .int (nI j) :: [])) rfl ?_
            refine n_icmp_ge (a := j) (b := v 0) (tgt := 124) F (by omega) (by omega) dX2_tankAt_31 (by decide) (fun c_31 => ?_) (fun c_31 => ?_)
            · have hj : j = v 0 := by omega
              refine lv_iload_n F.x F.cd dX2_tankAt_124 rfl (lv_at hl 3 rfl) ?_
              refine lv_iload_n F.x F.cd dX2_tankAt_125 rfl (lv_at hl 1 rfl) ?_
              refine lv_icmp_ne (x := (nI (aheadN v k j))) (y := rk) (tgt := 131) F.x F.cd dX2_tankAt_126 (by decide) (fun c_126 => ?_) (fun c_126 => ?_)
              · refine lv_iinc (k := 2) (v := (nI (k + 1))) (lv' := [(2, .int (nI (k + 1))), (0, .ref (L 0)), (1, .int rk), (3, .int (nI (aheadN v k j))), (4, .int (nI j))]) F.x F.cd dX2_tankAt_131 hl rfl (inc_nI k 1) (by decide) rfl (fun ls hl => ?_)
                refine lv_goto (tgt := 2) F.x F.cd dX2_tankAt_134 (by decide) ?_
                exact ih2 (k + 1) (by omega) (by rw [← hfd]; exact (if_neg (by rw [← hj]; exact c_126)).symm) H locs ls hW (lv_sub hl [1, 2, 0] rfl)
              · refine lv_iload_n F.x F.cd dX2_tankAt_129 rfl (lv_at hl 2 rfl) ?_
                subst hQ
                exact s_reti (v := (nI k)) F hW rfl (⟨by rw [← hfd]; exact congrArg (fun z => some (Value.int z)) (if_pos (by rw [← hj]; exact c_126)).symm, rfl⟩) ⟨(Nat.le_of_ble_eq_true rfl), (Nat.le_of_ble_eq_true rfl)⟩ dX2_tankAt_130
            · exact absurd c_31 (by omega)
          | succ z ih20 =>
            intro j hkz  H locs ls hW hl
            refine lv_iload F.x F.cd dX2_tankAt_20 (lv_at hl 4 rfl) ?_
            refine lv_aload_n F.x F.cd dX2_tankAt_22 rfl (lv_at hl 0 rfl) ?_
            refine s_get F hW (ci := 1) (C := RX2) (T := TX2) (N := 6) (v := .ref (L 1)) (hWk.1) rfl in_X2 0 (by decide) q159 (fun _ h9 => h9) rfl dX2_tankAt_23 ?_
            refine s_callF (As := []) (rest := [.int (nI j)]) (C := RJ2) (T := TJ2) (N := 3) (n := 0) F hW (k_J2_size g l σ _ _ _ _ hT) (eT) rfl (List.mem_of_getElem? (i := 0) rfl) q317 q272 q274 q72 q276 (by decide +kernel) rfl ⟨⟨Nat.le_of_ble_eq_true rfl, Nat.le_of_ble_eq_true rfl⟩, ⟨(Nat.le_of_ble_eq_true rfl), (Nat.le_of_ble_eq_true rfl)⟩⟩ (Nat.le_of_ble_eq_true rfl) hl.1 rfl dX2_tankAt_26 cX_no (fun r4 σ4 H locs hp4 hW => ?_)
            obtain ⟨rfl, hs4⟩ := hp4
            rw [hs4] at hW
            refine W.eq (g2 := F0 m_ 31 ls (.int (nI (v 0)) :: .int (nI j) :: [])) rfl ?_
            refine n_icmp_ge (a := j) (b := v 0) (tgt := 124) F (by omega) (by omega) dX2_tankAt_31 (by decide) (fun c_31 => ?_) (fun c_31 => ?_)
            · exact absurd c_31 (by omega)
            · have htj := hI.tk (t := j) (by omega)
              have htk := hI.tk (t := k) (by omega)
              refine lv_aload_n F.x F.cd dX2_tankAt_34 rfl (lv_at hl 0 rfl) ?_
              refine s_get F hW (ci := 1) (C := RX2) (T := TX2) (N := 6) (v := .ref (L 1)) (hWk.1) rfl in_X2 0 (by decide) q159 (fun _ h9 => h9) rfl dX2_tankAt_35 ?_
              refine lv_iload F.x F.cd dX2_tankAt_38 (lv_at hl 4 rfl) ?_
              refine s_callF (As := [.int (nI j)]) (rest := []) (C := RJ2) (T := TJ2) (N := 3) (n := 1) F hW (k_J2_get g l σ _ _ _ _ j hT (by omega)) (eT) rfl (List.mem_of_getElem? (i := 1) rfl) q693 q328 q330 q72 q332 (by decide +kernel) rfl ⟨⟨Nat.le_of_ble_eq_true rfl, Nat.le_of_ble_eq_true rfl⟩, ⟨(Nat.le_of_ble_eq_true rfl), (Nat.le_of_ble_eq_true rfl)⟩⟩ (Nat.le_of_ble_eq_true rfl) hl.1 rfl dX2_tankAt_40 cX_no (fun r5 σ5 H locs hp5 hW => ?_)
              obtain ⟨rfl, hs5⟩ := hp5
              rw [hs5] at hW
              refine W.eq (g2 := F0 m_ 45 ls (.ref (L (10 + j)) :: [])) rfl ?_
              refine s_cast_ F hW (C := RX4) (T := TX4) (N := 3) ((hWk.2.2.2.2.1 j (by omega)).1) rfl q790 dX2_tankAt_45 ?_
              refine lv_aload_n F.x F.cd dX2_tankAt_48 rfl (lv_at hl 0 rfl) ?_
              refine s_get F hW (ci := 1) (C := RX2) (T := TX2) (N := 6) (v := .ref (L 1)) (hWk.1) rfl in_X2 0 (by decide) q159 (fun _ h9 => h9) rfl dX2_tankAt_49 ?_
              refine lv_iload_n F.x F.cd dX2_tankAt_52 rfl (lv_at hl 2 rfl) ?_
              refine s_callF (As := [.int (nI k)]) (rest := [.ref (L (10 + j))]) (C := RJ2) (T := TJ2) (N := 3) (n := 1) F hW (k_J2_get g l σ _ _ _ _ k hT (by omega)) (eT) rfl (List.mem_of_getElem? (i := 1) rfl) q693 q328 q330 q72 q332 (by decide +kernel) rfl ⟨⟨Nat.le_of_ble_eq_true rfl, Nat.le_of_ble_eq_true rfl⟩, ⟨(Nat.le_of_ble_eq_true rfl), (Nat.le_of_ble_eq_true rfl)⟩⟩ (Nat.le_of_ble_eq_true rfl) hl.1 rfl dX2_tankAt_53 cX_no (fun r6 σ6 H locs hp6 hW => ?_)
              obtain ⟨rfl, hs6⟩ := hp6
              rw [hs6] at hW
              refine W.eq (g2 := F0 m_ 58 ls (.ref (L (10 + k)) :: .ref (L (10 + j)) :: [])) rfl ?_
              refine s_cast_ F hW (C := RX4) (T := TX4) (N := 3) ((hWk.2.2.2.2.1 k (by omega)).1) rfl q790 dX2_tankAt_58 ?_
              refine s_callV (As := [.ref (L (10 + k))]) (rest := []) (C := RX4) (T := TX4) (N := 3) (n := 1) F hW (k_X4_isTiedWith g l σ (L (10 + j)) (tC v j) (tK v j) (tI v j) (L (10 + k)) (tC v k) (tK v k) (tI v k) ((hWk.2.2.2.2.1 j (by omega)).1) ((hWk.2.2.2.2.1 k (by omega)).1) (by omega) (by omega) (by omega) (by omega)) ((hWk.2.2.2.2.1 j (by omega)).1) rfl q1559 q1560 q1561 q94 q1562 rfl (by decide +kernel) rfl ⟨⟨Nat.le_of_ble_eq_true rfl, Nat.le_of_ble_eq_true rfl⟩, ⟨(Nat.le_of_ble_eq_true rfl), (Nat.le_of_ble_eq_true rfl)⟩⟩ (Nat.le_of_ble_eq_true rfl) hl.1 rfl dX2_tankAt_61 cX_no (fun r7 σ7 H locs hp7 hW => ?_)
              obtain ⟨rfl, hs7⟩ := hp7
              rw [hs7] at hW
              refine W.eq (g2 := F0 m_ 64 ls (.int (bI (tied (tK v j) (tI v j) (tK v k) (tI v k))) :: [])) rfl ?_
              refine lv_istore (lv' := [(5, .int (bI (tied (tK v j) (tI v j) (tK v k) (tI v k)))), (0, .ref (L 0)), (1, .int rk), (2, .int (nI k)), (3, .int (nI (aheadN v k j))), (4, .int (nI j))]) F.x F.cd dX2_tankAt_64 hl (by decide) rfl (fun ls hl => ?_)
              refine lv_iload_n F.x F.cd dX2_tankAt_66 rfl (lv_at hl 4 rfl) ?_
              refine lv_aload_n F.x F.cd dX2_tankAt_67 rfl (lv_at hl 1 rfl) ?_
              refine s_get F hW (ci := 1) (C := RX2) (T := TX2) (N := 6) (v := .ref (L 1)) (hWk.1) rfl in_X2 0 (by decide) q159 (fun _ h9 => h9) rfl dX2_tankAt_68 ?_
              refine lv_iload F.x F.cd dX2_tankAt_71 (lv_at hl 5 rfl) ?_
              refine s_callF (As := [.int (nI j)]) (rest := [.int (nI (aheadN v k j))]) (C := RJ2) (T := TJ2) (N := 3) (n := 1) F hW (k_J2_get g l σ _ _ _ _ j hT (by omega)) (eT) rfl (List.mem_of_getElem? (i := 1) rfl) q693 q328 q330 q72 q332 (by decide +kernel) rfl ⟨⟨Nat.le_of_ble_eq_true rfl, Nat.le_of_ble_eq_true rfl⟩, ⟨(Nat.le_of_ble_eq_true rfl), (Nat.le_of_ble_eq_true rfl)⟩⟩ (Nat.le_of_ble_eq_true rfl) hl.1 rfl dX2_tankAt_73 cX_no (fun r8 σ8 H locs hp8 hW => ?_)
              obtain ⟨rfl, hs8⟩ := hp8
              rw [hs8] at hW
              refine W.eq (g2 := F0 m_ 78 ls (.ref (L (10 + j)) :: .int (nI (aheadN v k j)) :: [])) rfl ?_
              refine s_cast_ F hW (C := RX4) (T := TX4) (N := 3) ((hWk.2.2.2.2.1 j (by omega)).1) rfl q790 dX2_tankAt_78 ?_
              refine lv_aload_n F.x F.cd dX2_tankAt_81 rfl (lv_at hl 1 rfl) ?_
              refine s_get F hW (ci := 1) (C := RX2) (T := TX2) (N := 6) (v := .ref (L 1)) (hWk.1) rfl in_X2 0 (by decide) q159 (fun _ h9 => h9) rfl dX2_tankAt_82 ?_
              refine lv_iload_n F.x F.cd dX2_tankAt_85 rfl (lv_at hl 3 rfl) ?_
              refine s_callF (As := [.int (nI k)]) (rest := [.ref (L (10 + j)), .int (nI (aheadN v k j))]) (C := RJ2) (T := TJ2) (N := 3) (n := 1) F hW (k_J2_get g l σ _ _ _ _ k hT (by omega)) (eT) rfl (List.mem_of_getElem? (i := 1) rfl) q693 q328 q330 q72 q332 (by decide +kernel) rfl ⟨⟨Nat.le_of_ble_eq_true rfl, Nat.le_of_ble_eq_true rfl⟩, ⟨(Nat.le_of_ble_eq_true rfl), (Nat.le_of_ble_eq_true rfl)⟩⟩ (Nat.le_of_ble_eq_true rfl) hl.1 rfl dX2_tankAt_86 cX_no (fun r9 σ9 H locs hp9 hW => ?_)
              obtain ⟨rfl, hs9⟩ := hp9
              rw [hs9] at hW
              refine W.eq (g2 := F0 m_ 91 ls (.ref (L (10 + k)) :: .ref (L (10 + j)) :: .int (nI (aheadN v k j)) :: [])) rfl ?_
              refine s_cast_ F hW (C := RX4) (T := TX4) (N := 3) ((hWk.2.2.2.2.1 k (by omega)).1) rfl q790 dX2_tankAt_91 ?_
              refine s_callV (As := [.ref (L (10 + k))]) (rest := [.int (nI (aheadN v k j))]) (C := RX4) (T := TX4) (N := 3) (n := 1) F hW (k_X4_isAheadOf g l σ (L (10 + j)) (tC v j) (tK v j) (tI v j) (L (10 + k)) (tC v k) (tK v k) (tI v k) ((hWk.2.2.2.2.1 j (by omega)).1) ((hWk.2.2.2.2.1 k (by omega)).1) (by omega) (by omega) (by omega) (by omega)) ((hWk.2.2.2.2.1 j (by omega)).1) rfl q1564 q1565 q1566 q94 q1567 rfl (by decide +kernel) rfl ⟨⟨Nat.le_of_ble_eq_true rfl, Nat.le_of_ble_eq_true rfl⟩, ⟨(Nat.le_of_ble_eq_true rfl), (Nat.le_of_ble_eq_true rfl)⟩⟩ (Nat.le_of_ble_eq_true rfl) hl.1 rfl dX2_tankAt_94 cX_no (fun r10 σ10 H locs hp10 hW => ?_)
              obtain ⟨rfl, hs10⟩ := hp10
              rw [hs10] at hW
              refine W.eq (g2 := F0 m_ 97 ls (.int (bI (ahead (tK v j) (tI v j) (tK v k) (tI v k))) :: .int (nI (aheadN v k j)) :: [])) rfl ?_
              refine b_if_ne (b := (ahead (tK v j) (tI v j) (tK v k) (tI v k))) (tgt := 111) F dX2_tankAt_97 (by decide) (fun c_97 => ?_) (fun c_97 => ?_)
              · refine lv_iconst (v := (nI 1)) F.x F.cd dX2_tankAt_111 (by decide) ?_
                refine lv_goto (tgt := 116) F.x F.cd dX2_tankAt_112 (by decide) ?_
                refine W.eq (g2 := F0 m_ 116 ls (.int (nI (if aheadT v j k then 1 else 0)) :: .int (nI (aheadN v k j)) :: [])) (by rw [if_pos (by unfold aheadT; first | (simp [c_97]; done) | (simp [c_97]; omega))]) ?_
                refine a_iadd (v := (nI (aheadN v k j + (if aheadT v j k then 1 else 0)))) F (nI_add _ _) dX2_tankAt_116 ?_
                refine lv_istore_n (lv' := [(3, .int (nI (aheadN v k j + (if aheadT v j k then 1 else 0)))), (5, .int (bI (tied (tK v j) (tI v j) (tK v k) (tI v k)))), (0, .ref (L 0)), (1, .int rk), (2, .int (nI k)), (4, .int (nI j))]) F.x F.cd dX2_tankAt_117 rfl hl (by decide) rfl (fun ls hl => ?_)
                refine lv_iinc (k := 5) (v := (nI (j + 1))) (lv' := [(4, .int (nI (j + 1))), (3, .int (nI (aheadN v k j + (if aheadT v j k then 1 else 0)))), (5, .int (bI (tied (tK v j) (tI v j) (tK v k) (tI v k)))), (0, .ref (L 0)), (1, .int rk), (2, .int (nI k))]) F.x F.cd dX2_tankAt_118 hl rfl (inc_nI j 1) (by decide) rfl (fun ls hl => ?_)
                refine lv_goto (tgt := 20) F.x F.cd dX2_tankAt_121 (by decide) ?_
                exact ih20 (j + 1) (by omega)  H locs ls hW (lv_sub hl [3, 4, 5, 1, 0] rfl)
              · refine lv_iload F.x F.cd dX2_tankAt_100 (lv_at hl 0 rfl) ?_
                refine b_if_eq (b := (tied (tK v j) (tI v j) (tK v k) (tI v k))) (tgt := 115) F dX2_tankAt_102 (by decide) (fun c_102 => ?_) (fun c_102 => ?_)
                · refine lv_iconst (v := (nI 0)) F.x F.cd dX2_tankAt_115 (by decide) ?_
                  refine W.eq (g2 := F0 m_ 116 ls (.int (nI (if aheadT v j k then 1 else 0)) :: .int (nI (aheadN v k j)) :: [])) (by rw [if_neg (by unfold aheadT; first | (simp [c_97, c_102]; done) | (simp [c_97, c_102]; omega))]) ?_
                  refine a_iadd (v := (nI (aheadN v k j + (if aheadT v j k then 1 else 0)))) F (nI_add _ _) dX2_tankAt_116 ?_
                  refine lv_istore_n (lv' := [(3, .int (nI (aheadN v k j + (if aheadT v j k then 1 else 0)))), (5, .int (bI (tied (tK v j) (tI v j) (tK v k) (tI v k)))), (0, .ref (L 0)), (1, .int rk), (2, .int (nI k)), (4, .int (nI j))]) F.x F.cd dX2_tankAt_117 rfl hl (by decide) rfl (fun ls hl => ?_)
                  refine lv_iinc (k := 5) (v := (nI (j + 1))) (lv' := [(4, .int (nI (j + 1))), (3, .int (nI (aheadN v k j + (if aheadT v j k then 1 else 0)))), (5, .int (bI (tied (tK v j) (tI v j) (tK v k) (tI v k)))), (0, .ref (L 0)), (1, .int rk), (2, .int (nI k))]) F.x F.cd dX2_tankAt_118 hl rfl (inc_nI j 1) (by decide) rfl (fun ls hl => ?_)
                  refine lv_goto (tgt := 20) F.x F.cd dX2_tankAt_121 (by decide) ?_
                  exact ih20 (j + 1) (by omega)  H locs ls hW (lv_sub hl [3, 4, 5, 1, 0] rfl)
                · refine lv_iload F.x F.cd dX2_tankAt_105 (lv_at hl 5 rfl) ?_
                  refine lv_iload_n F.x F.cd dX2_tankAt_107 rfl (lv_at hl 3 rfl) ?_
                  refine n_icmp_ge (a := j) (b := k) (tgt := 115) F (by omega) (by omega) dX2_tankAt_108 (by decide) (fun c_108 => ?_) (fun c_108 => ?_)
                  · refine lv_iconst (v := (nI 0)) F.x F.cd dX2_tankAt_115 (by decide) ?_
                    refine W.eq (g2 := F0 m_ 116 ls (.int (nI (if aheadT v j k then 1 else 0)) :: .int (nI (aheadN v k j)) :: [])) (by rw [if_neg (by unfold aheadT; first | (simp [c_97, c_102, c_108]; done) | (simp [c_97, c_102, c_108]; omega))]) ?_
                    refine a_iadd (v := (nI (aheadN v k j + (if aheadT v j k then 1 else 0)))) F (nI_add _ _) dX2_tankAt_116 ?_
                    refine lv_istore_n (lv' := [(3, .int (nI (aheadN v k j + (if aheadT v j k then 1 else 0)))), (5, .int (bI (tied (tK v j) (tI v j) (tK v k) (tI v k)))), (0, .ref (L 0)), (1, .int rk), (2, .int (nI k)), (4, .int (nI j))]) F.x F.cd dX2_tankAt_117 rfl hl (by decide) rfl (fun ls hl => ?_)
                    refine lv_iinc (k := 5) (v := (nI (j + 1))) (lv' := [(4, .int (nI (j + 1))), (3, .int (nI (aheadN v k j + (if aheadT v j k then 1 else 0)))), (5, .int (bI (tied (tK v j) (tI v j) (tK v k) (tI v k)))), (0, .ref (L 0)), (1, .int rk), (2, .int (nI k))]) F.x F.cd dX2_tankAt_118 hl rfl (inc_nI j 1) (by decide) rfl (fun ls hl => ?_)
                    refine lv_goto (tgt := 20) F.x F.cd dX2_tankAt_121 (by decide) ?_
                    exact ih20 (j + 1) (by omega)  H locs ls hW (lv_sub hl [3, 4, 5, 1, 0] rfl)
                  · refine lv_iconst (v := (nI 1)) F.x F.cd dX2_tankAt_111 (by decide) ?_
                    refine lv_goto (tgt := 116) F.x F.cd dX2_tankAt_112 (by decide) ?_
                    refine W.eq (g2 := F0 m_ 116 ls (.int (nI (if aheadT v j k then 1 else 0)) :: .int (nI (aheadN v k j)) :: [])) (by rw [if_pos (by unfold aheadT; first | (simp [c_97, c_102, c_108]; done) | (simp [c_97, c_102, c_108]; omega))]) ?_
                    refine a_iadd (v := (nI (aheadN v k j + (if aheadT v j k then 1 else 0)))) F (nI_add _ _) dX2_tankAt_116 ?_
                    refine lv_istore_n (lv' := [(3, .int (nI (aheadN v k j + (if aheadT v j k then 1 else 0)))), (5, .int (bI (tied (tK v j) (tI v j) (tK v k) (tI v k)))), (0, .ref (L 0)), (1, .int rk), (2, .int (nI k)), (4, .int (nI j))]) F.x F.cd dX2_tankAt_117 rfl hl (by decide) rfl (fun ls hl => ?_)
                    refine lv_iinc (k := 5) (v := (nI (j + 1))) (lv' := [(4, .int (nI (j + 1))), (3, .int (nI (aheadN v k j + (if aheadT v j k then 1 else 0)))), (5, .int (bI (tied (tK v j) (tI v j) (tK v k) (tI v k)))), (0, .ref (L 0)), (1, .int rk), (2, .int (nI k))]) F.x F.cd dX2_tankAt_118 hl rfl (inc_nI j 1) (by decide) rfl (fun ls hl => ?_)
                    refine lv_goto (tgt := 20) F.x F.cd dX2_tankAt_121 (by decide) ?_
                    exact ih20 (j + 1) (by omega)  H locs ls hW (lv_sub hl [3, 4, 5, 1, 0] rfl)
        exact loop20 (v 0) 0 (by omega)  H locs ls hW (lv_sub hl [2, 3, 4, 1, 0] rfl)
  exact loop2 (v 0) 0 (by omega) (rfl) H locs ls hW (lv_sub hl [1, 2, 0] rfl)
set_option maxHeartbeats 4000000 in
theorem k_X2_pipeAt (g : Gh) (l : Launch) (σ : Sto) (L v : Nat → Nat) (rk : Int32) (hWk : IsWorks g σ L v) (hI : Inv v) : Ct g l yX2_pipeAt cX2_pipeAt 6 (some .int) ({ frames := 3, cells := 0, slots := 0, locals := 64 } : Room) [.ref (L 0), .int rk] σ (fun r σ' => r = some (.int (findP v rk 0 (v 1))) ∧ σ' = σ) (nox) := by
  refine Ct.body (by decide) (Nat.le_of_ble_eq_true rfl) ?_
  intro p_ e_ s_ m_ args_ below_ meth_ c_ ls H locs Q F hW hl hQ
  have hl : lv_has ls 6 [(0, .ref (L 0)), (1, .int rk)] := hl
  have hT := hWk.2.2.1
  have hP := hWk.2.2.2.1
  obtain ⟨mcT, nT, fT, eT, bT, -⟩ := id hT
  obtain ⟨mcP, nP, fP, eP, bP, -⟩ := id hP
  have hv0 := hI.1
  have hv1 := hI.2.1
  refine lv_iconst (v := (nI 0)) F.x F.cd dX2_pipeAt_0 (by decide) ?_
  refine lv_istore_n (lv' := [(2, .int (nI 0)), (0, .ref (L 0)), (1, .int rk)]) F.x F.cd dX2_pipeAt_1 rfl hl (by decide) rfl (fun ls hl => ?_)
  have loop2 : ∀ (n : Nat) (k : Nat), k + n = v 1 → findP v rk k n = findP v rk 0 (v 1) → ∀ (H : Heap) (locs : List Loc) (ls : Array Slot), Hl g σ H locs → lv_has ls 6 [(0, .ref (L 0)), (1, .int rk), (2, .int (nI k))] → W p_ l e_ ({ frames := 3, cells := 0, slots := 0, locals := 64 } : Room) s_ m_ args_ below_ meth_ c_ H locs 0 0 Q (F0 m_ 2 ls ([])) := by
    intro n
    induction n with
    | zero =>
      intro k hkn hfd H locs ls hW hl
      refine lv_iload_n F.x F.cd dX2_pipeAt_2 rfl (lv_at hl 2 rfl) ?_
      refine lv_aload_n F.x F.cd dX2_pipeAt_3 rfl (lv_at hl 0 rfl) ?_
      refine s_get F hW (ci := 1) (C := RX2) (T := TX2) (N := 6) (v := .ref (L 2)) (hWk.1) rfl in_X2 1 (by decide) q162 (fun _ h9 => h9) rfl dX2_pipeAt_4 ?_
      refine s_callF (As := []) (rest := [.int (nI k)]) (C := RJ2) (T := TJ2) (N := 3) (n := 0) F hW (k_J2_size g l σ _ _ _ _ hP) (eP) rfl (List.mem_of_getElem? (i := 0) rfl) q317 q272 q274 q72 q276 (by decide +kernel) rfl ⟨⟨Nat.le_of_ble_eq_true rfl, Nat.le_of_ble_eq_true rfl⟩, ⟨(Nat.le_of_ble_eq_true rfl), (Nat.le_of_ble_eq_true rfl)⟩⟩ (Nat.le_of_ble_eq_true rfl) hl.1 rfl dX2_pipeAt_7 cX_no (fun r1 σ1 H locs hp1 hW => ?_)
      obtain ⟨rfl, hs1⟩ := hp1
      rw [hs1] at hW
      refine W.eq (g2 := F0 m_ 12 ls (.int (nI (v 1)) :: .int (nI k) :: [])) rfl ?_
      refine n_icmp_ge (a := k) (b := v 1) (tgt := 159) F (by omega) (by omega) dX2_pipeAt_12 (by decide) (fun c_12 => ?_) (fun c_12 => ?_)
      · refine lv_iconst (v := (-1 : Int32)) F.x F.cd dX2_pipeAt_159 (by decide) ?_
        subst hQ
        exact s_reti (v := (-1 : Int32)) F hW rfl (⟨by rw [← hfd]; rfl, rfl⟩) ⟨(Nat.le_of_ble_eq_true rfl), (Nat.le_of_ble_eq_true rfl)⟩ dX2_pipeAt_160
      · exact absurd c_12 (by omega)
    | succ n ih2 =>
      intro k hkn hfd H locs ls hW hl
      refine lv_iload_n F.x F.cd dX2_pipeAt_2 rfl (lv_at hl 2 rfl) ?_
      refine lv_aload_n F.x F.cd dX2_pipeAt_3 rfl (lv_at hl 0 rfl) ?_
      refine s_get F hW (ci := 1) (C := RX2) (T := TX2) (N := 6) (v := .ref (L 2)) (hWk.1) rfl in_X2 1 (by decide) q162 (fun _ h9 => h9) rfl dX2_pipeAt_4 ?_
      refine s_callF (As := []) (rest := [.int (nI k)]) (C := RJ2) (T := TJ2) (N := 3) (n := 0) F hW (k_J2_size g l σ _ _ _ _ hP) (eP) rfl (List.mem_of_getElem? (i := 0) rfl) q317 q272 q274 q72 q276 (by decide +kernel) rfl ⟨⟨Nat.le_of_ble_eq_true rfl, Nat.le_of_ble_eq_true rfl⟩, ⟨(Nat.le_of_ble_eq_true rfl), (Nat.le_of_ble_eq_true rfl)⟩⟩ (Nat.le_of_ble_eq_true rfl) hl.1 rfl dX2_pipeAt_7 cX_no (fun r2 σ2 H locs hp2 hW => ?_)
      obtain ⟨rfl, hs2⟩ := hp2
      rw [hs2] at hW
      refine W.eq (g2 := F0 m_ 12 ls (.int (nI (v 1)) :: .int (nI k) :: [])) rfl ?_
      refine n_icmp_ge (a := k) (b := v 1) (tgt := 159) F (by omega) (by omega) dX2_pipeAt_12 (by decide) (fun c_12 => ?_) (fun c_12 => ?_)
      · exact absurd c_12 (by omega)
      · refine lv_iconst (v := (nI 0)) F.x F.cd dX2_pipeAt_15 (by decide) ?_
        refine lv_istore_n (lv' := [(3, .int (nI 0)), (0, .ref (L 0)), (1, .int rk), (2, .int (nI k))]) F.x F.cd dX2_pipeAt_16 rfl hl (by decide) rfl (fun ls hl => ?_)
        refine lv_iconst (v := (nI 0)) F.x F.cd dX2_pipeAt_17 (by decide) ?_
        refine lv_istore (lv' := [(4, .int (nI 0)), (3, .int (nI 0)), (0, .ref (L 0)), (1, .int rk), (2, .int (nI k))]) F.x F.cd dX2_pipeAt_18 hl (by decide) rfl (fun ls hl => ?_)
        have loop20 : ∀ (z : Nat) (j : Nat), j + z = v 1 → ∀ (H : Heap) (locs : List Loc) (ls : Array Slot), Hl g σ H locs → lv_has ls 6 [(0, .ref (L 0)), (1, .int rk), (2, .int (nI k)), (3, .int (nI (aheadPN v k j))), (4, .int (nI j))] → W p_ l e_ ({ frames := 3, cells := 0, slots := 0, locals := 64 } : Room) s_ m_ args_ below_ meth_ c_ H locs 0 0 Q (F0 m_ 20 ls ([])) := by
          intro z
          induction z with
          | zero =>
            intro j hkz  H locs ls hW hl
            refine lv_iload F.x F.cd dX2_pipeAt_20 (lv_at hl 4 rfl) ?_
            refine lv_aload_n F.x F.cd dX2_pipeAt_22 rfl (lv_at hl 0 rfl) ?_
            refine s_get F hW (ci := 1) (C := RX2) (T := TX2) (N := 6) (v := .ref (L 2)) (hWk.1) rfl in_X2 1 (by decide) q162 (fun _ h9 => h9) rfl dX2_pipeAt_23 ?_
            refine s_callF (As := []) (rest := [.int (nI j)]) (C := RJ2) (T := TJ2) (N := 3) (n := 0) F hW (k_J2_size g l σ _ _ _ _ hP) (eP) rfl (List.mem_of_getElem? (i := 0) rfl) q317 q272 q274 q72 q276 (by decide +kernel) rfl ⟨⟨Nat.le_of_ble_eq_true rfl, Nat.le_of_ble_eq_true rfl⟩, ⟨(Nat.le_of_ble_eq_true rfl), (Nat.le_of_ble_eq_true rfl)⟩⟩ (Nat.le_of_ble_eq_true rfl) hl.1 rfl dX2_pipeAt_26 cX_no (fun r3 σ3 H locs hp3 hW => ?_)
            obtain ⟨rfl, hs3⟩ := hp3
            rw [hs3] at hW
            refine W.eq (g2 := F0 m_ 31 ls (.int (nI (v 1)) :: .int (nI j) :: [])) rfl ?_
            refine n_icmp_ge (a := j) (b := v 1) (tgt := 146) F (by omega) (by omega) dX2_pipeAt_31 (by decide) (fun c_31 => ?_) (fun c_31 => ?_)
            · have hj : j = v 1 := by omega
              refine lv_iload_n F.x F.cd dX2_pipeAt_146 rfl (lv_at hl 3 rfl) ?_
              refine lv_iload_n F.x F.cd dX2_pipeAt_147 rfl (lv_at hl 1 rfl) ?_
              refine lv_icmp_ne (x := (nI (aheadPN v k j))) (y := rk) (tgt := 153) F.x F.cd dX2_pipeAt_148 (by decide) (fun c_148 => ?_) (fun c_148 => ?_)
              · refine lv_iinc (k := 2) (v := (nI (k + 1))) (lv' := [(2, .int (nI (k + 1))), (0, .ref (L 0)), (1, .int rk), (3, .int (nI (aheadPN v k j))), (4, .int (nI j))]) F.x F.cd dX2_pipeAt_153 hl rfl (inc_nI k 1) (by decide) rfl (fun ls hl => ?_)
                refine lv_goto (tgt := 2) F.x F.cd dX2_pipeAt_156 (by decide) ?_
                exact ih2 (k + 1) (by omega) (by rw [← hfd]; exact (if_neg (by rw [← hj]; exact c_148)).symm) H locs ls hW (lv_sub hl [1, 2, 0] rfl)
              · refine lv_iload_n F.x F.cd dX2_pipeAt_151 rfl (lv_at hl 2 rfl) ?_
                subst hQ
                exact s_reti (v := (nI k)) F hW rfl (⟨by rw [← hfd]; exact congrArg (fun z => some (Value.int z)) (if_pos (by rw [← hj]; exact c_148)).symm, rfl⟩) ⟨(Nat.le_of_ble_eq_true rfl), (Nat.le_of_ble_eq_true rfl)⟩ dX2_pipeAt_152
            · exact absurd c_31 (by omega)
          | succ z ih20 =>
            intro j hkz  H locs ls hW hl
            refine lv_iload F.x F.cd dX2_pipeAt_20 (lv_at hl 4 rfl) ?_
            refine lv_aload_n F.x F.cd dX2_pipeAt_22 rfl (lv_at hl 0 rfl) ?_
            refine s_get F hW (ci := 1) (C := RX2) (T := TX2) (N := 6) (v := .ref (L 2)) (hWk.1) rfl in_X2 1 (by decide) q162 (fun _ h9 => h9) rfl dX2_pipeAt_23 ?_
            refine s_callF (As := []) (rest := [.int (nI j)]) (C := RJ2) (T := TJ2) (N := 3) (n := 0) F hW (k_J2_size g l σ _ _ _ _ hP) (eP) rfl (List.mem_of_getElem? (i := 0) rfl) q317 q272 q274 q72 q276 (by decide +kernel) rfl ⟨⟨Nat.le_of_ble_eq_true rfl, Nat.le_of_ble_eq_true rfl⟩, ⟨(Nat.le_of_ble_eq_true rfl), (Nat.le_of_ble_eq_true rfl)⟩⟩ (Nat.le_of_ble_eq_true rfl) hl.1 rfl dX2_pipeAt_26 cX_no (fun r4 σ4 H locs hp4 hW => ?_)
            obtain ⟨rfl, hs4⟩ := hp4
            rw [hs4] at hW
            refine W.eq (g2 := F0 m_ 31 ls (.int (nI (v 1)) :: .int (nI j) :: [])) rfl ?_
            refine n_icmp_ge (a := j) (b := v 1) (tgt := 146) F (by omega) (by omega) dX2_pipeAt_31 (by decide) (fun c_31 => ?_) (fun c_31 => ?_)
            · exact absurd c_31 (by omega)
            · refine lv_aload_n F.x F.cd dX2_pipeAt_34 rfl (lv_at hl 0 rfl) ?_
              refine s_get F hW (ci := 1) (C := RX2) (T := TX2) (N := 6) (v := .ref (L 2)) (hWk.1) rfl in_X2 1 (by decide) q162 (fun _ h9 => h9) rfl dX2_pipeAt_35 ?_
              refine lv_iload F.x F.cd dX2_pipeAt_38 (lv_at hl 4 rfl) ?_
              refine s_callF (As := [.int (nI j)]) (rest := []) (C := RJ2) (T := TJ2) (N := 3) (n := 1) F hW (k_J2_get g l σ _ _ _ _ j hP (by omega)) (eP) rfl (List.mem_of_getElem? (i := 1) rfl) q693 q328 q330 q72 q332 (by decide +kernel) rfl ⟨⟨Nat.le_of_ble_eq_true rfl, Nat.le_of_ble_eq_true rfl⟩, ⟨(Nat.le_of_ble_eq_true rfl), (Nat.le_of_ble_eq_true rfl)⟩⟩ (Nat.le_of_ble_eq_true rfl) hl.1 rfl dX2_pipeAt_40 cX_no (fun r5 σ5 H locs hp5 hW => ?_)
              obtain ⟨rfl, hs5⟩ := hp5
              rw [hs5] at hW
              refine W.eq (g2 := F0 m_ 45 ls (.ref (L (100 + j)) :: [])) rfl ?_
              refine s_cast_ F hW (C := RX5) (T := TX5) (N := 7) ((hWk.2.2.2.2.2.1 j (by omega)).1) rfl q694 dX2_pipeAt_45 ?_
              refine s_getN F hW (ci := 9) (C := RX5) (T := TX5) (N := 7) (v := .int (nI (pD v j))) ((hWk.2.2.2.2.2.1 j (by omega)).1) rfl in_X5 5 (by decide) q1085 (fun _ h9 => h9) rfl dX2_pipeAt_48 ?_
              refine lv_aload_n F.x F.cd dX2_pipeAt_51 rfl (lv_at hl 0 rfl) ?_
              refine s_get F hW (ci := 1) (C := RX2) (T := TX2) (N := 6) (v := .ref (L 2)) (hWk.1) rfl in_X2 1 (by decide) q162 (fun _ h9 => h9) rfl dX2_pipeAt_52 ?_
              refine lv_iload_n F.x F.cd dX2_pipeAt_55 rfl (lv_at hl 2 rfl) ?_
              refine s_callF (As := [.int (nI k)]) (rest := [.int (nI (pD v j))]) (C := RJ2) (T := TJ2) (N := 3) (n := 1) F hW (k_J2_get g l σ _ _ _ _ k hP (by omega)) (eP) rfl (List.mem_of_getElem? (i := 1) rfl) q693 q328 q330 q72 q332 (by decide +kernel) rfl ⟨⟨Nat.le_of_ble_eq_true rfl, Nat.le_of_ble_eq_true rfl⟩, ⟨(Nat.le_of_ble_eq_true rfl), (Nat.le_of_ble_eq_true rfl)⟩⟩ (Nat.le_of_ble_eq_true rfl) hl.1 rfl dX2_pipeAt_56 cX_no (fun r6 σ6 H locs hp6 hW => ?_)
              obtain ⟨rfl, hs6⟩ := hp6
              rw [hs6] at hW
              refine W.eq (g2 := F0 m_ 61 ls (.ref (L (100 + k)) :: .int (nI (pD v j)) :: [])) rfl ?_
              refine s_cast_ F hW (C := RX5) (T := TX5) (N := 7) ((hWk.2.2.2.2.2.1 k (by omega)).1) rfl q694 dX2_pipeAt_61 ?_
              refine s_getN F hW (ci := 9) (C := RX5) (T := TX5) (N := 7) (v := .int (nI (pD v k))) ((hWk.2.2.2.2.2.1 k (by omega)).1) rfl in_X5 5 (by decide) q1085 (fun _ h9 => h9) rfl dX2_pipeAt_64 ?_
              refine a_isub (v := ((nI (pD v j)) - (nI (pD v k)))) F (rfl) dX2_pipeAt_67 ?_
              refine lv_istore (lv' := [(5, .int ((nI (pD v j)) - (nI (pD v k)))), (0, .ref (L 0)), (1, .int rk), (2, .int (nI k)), (3, .int (nI (aheadPN v k j))), (4, .int (nI j))]) F.x F.cd dX2_pipeAt_68 hl (by decide) rfl (fun ls hl => ?_)
              refine lv_iload F.x F.cd dX2_pipeAt_70 (lv_at hl 0 rfl) ?_
              refine lv_if_ne (x := ((nI (pD v j)) - (nI (pD v k)))) (tgt := 112) F.x F.cd dX2_pipeAt_72 (by decide) (fun c_72 => ?_) (fun c_72 => ?_)
              · refine lv_iload F.x F.cd dX2_pipeAt_112 (lv_at hl 0 rfl) ?_
                refine W.eq (g2 := F0 m_ 114 ls (.int (pmore v j k) :: [])) (by rw [show pmore v j k = _ from if_neg c_72]) ?_
                refine lv_istore (lv' := [(5, .int (pmore v j k)), (0, .ref (L 0)), (1, .int rk), (2, .int (nI k)), (3, .int (nI (aheadPN v k j))), (4, .int (nI j))]) F.x F.cd dX2_pipeAt_114 hl (by decide) rfl (fun ls hl => ?_)
                refine lv_iload_n F.x F.cd dX2_pipeAt_116 rfl (lv_at hl 4 rfl) ?_
                refine lv_iload F.x F.cd dX2_pipeAt_117 (lv_at hl 0 rfl) ?_
                refine lv_if_gt (x := (pmore v j k)) (tgt := 133) F.x F.cd dX2_pipeAt_119 (by decide) (fun c_119 => ?_) (fun c_119 => ?_)
                · refine lv_iconst (v := (nI 1)) F.x F.cd dX2_pipeAt_133 (by decide) ?_
                  refine lv_goto (tgt := 138) F.x F.cd dX2_pipeAt_134 (by decide) ?_
                  refine W.eq (g2 := F0 m_ 138 ls (.int (nI (if aheadP v j k then 1 else 0)) :: .int (nI (aheadPN v k j)) :: [])) (by rw [if_pos (by unfold aheadP; first | (simp [c_119]; done) | (simp [c_119]; omega) | (simp at c_124; simp [c_119]; done) | (simp at c_124; simp [c_119]; omega))]) ?_
                  refine a_iadd (v := (nI (aheadPN v k j + (if aheadP v j k then 1 else 0)))) F (nI_add _ _) dX2_pipeAt_138 ?_
                  refine lv_istore_n (lv' := [(3, .int (nI (aheadPN v k j + (if aheadP v j k then 1 else 0)))), (5, .int (pmore v j k)), (0, .ref (L 0)), (1, .int rk), (2, .int (nI k)), (4, .int (nI j))]) F.x F.cd dX2_pipeAt_139 rfl hl (by decide) rfl (fun ls hl => ?_)
                  refine lv_iinc (k := 5) (v := (nI (j + 1))) (lv' := [(4, .int (nI (j + 1))), (3, .int (nI (aheadPN v k j + (if aheadP v j k then 1 else 0)))), (5, .int (pmore v j k)), (0, .ref (L 0)), (1, .int rk), (2, .int (nI k))]) F.x F.cd dX2_pipeAt_140 hl rfl (inc_nI j 1) (by decide) rfl (fun ls hl => ?_)
                  refine lv_goto (tgt := 20) F.x F.cd dX2_pipeAt_143 (by decide) ?_
                  exact ih20 (j + 1) (by omega)  H locs ls hW (lv_sub hl [3, 4, 5, 1, 0] rfl)
                · refine lv_iload F.x F.cd dX2_pipeAt_122 (lv_at hl 0 rfl) ?_
                  refine lv_if_ne (x := (pmore v j k)) (tgt := 137) F.x F.cd dX2_pipeAt_124 (by decide) (fun c_124 => ?_) (fun c_124 => ?_)
                  · refine lv_iconst (v := (nI 0)) F.x F.cd dX2_pipeAt_137 (by decide) ?_
                    refine W.eq (g2 := F0 m_ 138 ls (.int (nI (if aheadP v j k then 1 else 0)) :: .int (nI (aheadPN v k j)) :: [])) (by rw [if_neg (by unfold aheadP; first | (simp [c_119, c_124]; done) | (simp [c_119, c_124]; omega) | (simp at c_124; simp [c_119, c_124]; done) | (simp at c_124; simp [c_119, c_124]; omega))]) ?_
                    refine a_iadd (v := (nI (aheadPN v k j + (if aheadP v j k then 1 else 0)))) F (nI_add _ _) dX2_pipeAt_138 ?_
                    refine lv_istore_n (lv' := [(3, .int (nI (aheadPN v k j + (if aheadP v j k then 1 else 0)))), (5, .int (pmore v j k)), (0, .ref (L 0)), (1, .int rk), (2, .int (nI k)), (4, .int (nI j))]) F.x F.cd dX2_pipeAt_139 rfl hl (by decide) rfl (fun ls hl => ?_)
                    refine lv_iinc (k := 5) (v := (nI (j + 1))) (lv' := [(4, .int (nI (j + 1))), (3, .int (nI (aheadPN v k j + (if aheadP v j k then 1 else 0)))), (5, .int (pmore v j k)), (0, .ref (L 0)), (1, .int rk), (2, .int (nI k))]) F.x F.cd dX2_pipeAt_140 hl rfl (inc_nI j 1) (by decide) rfl (fun ls hl => ?_)
                    refine lv_goto (tgt := 20) F.x F.cd dX2_pipeAt_143 (by decide) ?_
                    exact ih20 (j + 1) (by omega)  H locs ls hW (lv_sub hl [3, 4, 5, 1, 0] rfl)
                  · refine lv_iload F.x F.cd dX2_pipeAt_127 (lv_at hl 5 rfl) ?_
                    refine lv_iload_n F.x F.cd dX2_pipeAt_129 rfl (lv_at hl 3 rfl) ?_
                    refine n_icmp_ge (a := j) (b := k) (tgt := 137) F (by omega) (by omega) dX2_pipeAt_130 (by decide) (fun c_130 => ?_) (fun c_130 => ?_)
                    · refine lv_iconst (v := (nI 0)) F.x F.cd dX2_pipeAt_137 (by decide) ?_
                      refine W.eq (g2 := F0 m_ 138 ls (.int (nI (if aheadP v j k then 1 else 0)) :: .int (nI (aheadPN v k j)) :: [])) (by rw [if_neg (by unfold aheadP; first | (simp [c_119, c_124, c_130]; done) | (simp [c_119, c_124, c_130]; omega) | (simp at c_124; simp [c_119, c_124, c_130]; done) | (simp at c_124; simp [c_119, c_124, c_130]; omega))]) ?_
                      refine a_iadd (v := (nI (aheadPN v k j + (if aheadP v j k then 1 else 0)))) F (nI_add _ _) dX2_pipeAt_138 ?_
                      refine lv_istore_n (lv' := [(3, .int (nI (aheadPN v k j + (if aheadP v j k then 1 else 0)))), (5, .int (pmore v j k)), (0, .ref (L 0)), (1, .int rk), (2, .int (nI k)), (4, .int (nI j))]) F.x F.cd dX2_pipeAt_139 rfl hl (by decide) rfl (fun ls hl => ?_)
                      refine lv_iinc (k := 5) (v := (nI (j + 1))) (lv' := [(4, .int (nI (j + 1))), (3, .int (nI (aheadPN v k j + (if aheadP v j k then 1 else 0)))), (5, .int (pmore v j k)), (0, .ref (L 0)), (1, .int rk), (2, .int (nI k))]) F.x F.cd dX2_pipeAt_140 hl rfl (inc_nI j 1) (by decide) rfl (fun ls hl => ?_)
                      refine lv_goto (tgt := 20) F.x F.cd dX2_pipeAt_143 (by decide) ?_
                      exact ih20 (j + 1) (by omega)  H locs ls hW (lv_sub hl [3, 4, 5, 1, 0] rfl)
                    · refine lv_iconst (v := (nI 1)) F.x F.cd dX2_pipeAt_133 (by decide) ?_
                      refine lv_goto (tgt := 138) F.x F.cd dX2_pipeAt_134 (by decide) ?_
                      refine W.eq (g2 := F0 m_ 138 ls (.int (nI (if aheadP v j k then 1 else 0)) :: .int (nI (aheadPN v k j)) :: [])) (by rw [if_pos (by unfold aheadP; first | (simp [c_119, c_124, c_130]; done) | (simp [c_119, c_124, c_130]; omega) | (simp at c_124; simp [c_119, c_124, c_130]; done) | (simp at c_124; simp [c_119, c_124, c_130]; omega))]) ?_
                      refine a_iadd (v := (nI (aheadPN v k j + (if aheadP v j k then 1 else 0)))) F (nI_add _ _) dX2_pipeAt_138 ?_
                      refine lv_istore_n (lv' := [(3, .int (nI (aheadPN v k j + (if aheadP v j k then 1 else 0)))), (5, .int (pmore v j k)), (0, .ref (L 0)), (1, .int rk), (2, .int (nI k)), (4, .int (nI j))]) F.x F.cd dX2_pipeAt_139 rfl hl (by decide) rfl (fun ls hl => ?_)
                      refine lv_iinc (k := 5) (v := (nI (j + 1))) (lv' := [(4, .int (nI (j + 1))), (3, .int (nI (aheadPN v k j + (if aheadP v j k then 1 else 0)))), (5, .int (pmore v j k)), (0, .ref (L 0)), (1, .int rk), (2, .int (nI k))]) F.x F.cd dX2_pipeAt_140 hl rfl (inc_nI j 1) (by decide) rfl (fun ls hl => ?_)
                      refine lv_goto (tgt := 20) F.x F.cd dX2_pipeAt_143 (by decide) ?_
                      exact ih20 (j + 1) (by omega)  H locs ls hW (lv_sub hl [3, 4, 5, 1, 0] rfl)
              · refine lv_aload_n F.x F.cd dX2_pipeAt_75 rfl (lv_at hl 1 rfl) ?_
                refine s_get F hW (ci := 1) (C := RX2) (T := TX2) (N := 6) (v := .ref (L 2)) (hWk.1) rfl in_X2 1 (by decide) q162 (fun _ h9 => h9) rfl dX2_pipeAt_76 ?_
                refine lv_iload F.x F.cd dX2_pipeAt_79 (lv_at hl 5 rfl) ?_
                refine s_callF (As := [.int (nI j)]) (rest := []) (C := RJ2) (T := TJ2) (N := 3) (n := 1) F hW (k_J2_get g l σ _ _ _ _ j hP (by omega)) (eP) rfl (List.mem_of_getElem? (i := 1) rfl) q693 q328 q330 q72 q332 (by decide +kernel) rfl ⟨⟨Nat.le_of_ble_eq_true rfl, Nat.le_of_ble_eq_true rfl⟩, ⟨(Nat.le_of_ble_eq_true rfl), (Nat.le_of_ble_eq_true rfl)⟩⟩ (Nat.le_of_ble_eq_true rfl) hl.1 rfl dX2_pipeAt_81 cX_no (fun r7 σ7 H locs hp7 hW => ?_)
                obtain ⟨rfl, hs7⟩ := hp7
                rw [hs7] at hW
                refine W.eq (g2 := F0 m_ 86 ls (.ref (L (100 + j)) :: [])) rfl ?_
                refine s_cast_ F hW (C := RX5) (T := TX5) (N := 7) ((hWk.2.2.2.2.2.1 j (by omega)).1) rfl q694 dX2_pipeAt_86 ?_
                refine s_getN F hW (ci := 9) (C := RX5) (T := TX5) (N := 7) (v := .int (nI (pL v j))) ((hWk.2.2.2.2.2.1 j (by omega)).1) rfl in_X5 6 (by decide) q1088 (fun _ h9 => h9) rfl dX2_pipeAt_89 ?_
                refine lv_aload_n F.x F.cd dX2_pipeAt_92 rfl (lv_at hl 1 rfl) ?_
                refine s_get F hW (ci := 1) (C := RX2) (T := TX2) (N := 6) (v := .ref (L 2)) (hWk.1) rfl in_X2 1 (by decide) q162 (fun _ h9 => h9) rfl dX2_pipeAt_93 ?_
                refine lv_iload_n F.x F.cd dX2_pipeAt_96 rfl (lv_at hl 3 rfl) ?_
                refine s_callF (As := [.int (nI k)]) (rest := [.int (nI (pL v j))]) (C := RJ2) (T := TJ2) (N := 3) (n := 1) F hW (k_J2_get g l σ _ _ _ _ k hP (by omega)) (eP) rfl (List.mem_of_getElem? (i := 1) rfl) q693 q328 q330 q72 q332 (by decide +kernel) rfl ⟨⟨Nat.le_of_ble_eq_true rfl, Nat.le_of_ble_eq_true rfl⟩, ⟨(Nat.le_of_ble_eq_true rfl), (Nat.le_of_ble_eq_true rfl)⟩⟩ (Nat.le_of_ble_eq_true rfl) hl.1 rfl dX2_pipeAt_97 cX_no (fun r8 σ8 H locs hp8 hW => ?_)
                obtain ⟨rfl, hs8⟩ := hp8
                rw [hs8] at hW
                refine W.eq (g2 := F0 m_ 102 ls (.ref (L (100 + k)) :: .int (nI (pL v j)) :: [])) rfl ?_
                refine s_cast_ F hW (C := RX5) (T := TX5) (N := 7) ((hWk.2.2.2.2.2.1 k (by omega)).1) rfl q694 dX2_pipeAt_102 ?_
                refine s_getN F hW (ci := 9) (C := RX5) (T := TX5) (N := 7) (v := .int (nI (pL v k))) ((hWk.2.2.2.2.2.1 k (by omega)).1) rfl in_X5 6 (by decide) q1088 (fun _ h9 => h9) rfl dX2_pipeAt_105 ?_
                refine a_isub (v := ((nI (pL v j)) - (nI (pL v k)))) F (rfl) dX2_pipeAt_108 ?_
                refine lv_goto (tgt := 114) F.x F.cd dX2_pipeAt_109 (by decide) ?_
                refine W.eq (g2 := F0 m_ 114 ls (.int (pmore v j k) :: [])) (by rw [show pmore v j k = _ from if_pos c_72]) ?_
                refine lv_istore (lv' := [(5, .int (pmore v j k)), (0, .ref (L 0)), (1, .int rk), (2, .int (nI k)), (3, .int (nI (aheadPN v k j))), (4, .int (nI j))]) F.x F.cd dX2_pipeAt_114 hl (by decide) rfl (fun ls hl => ?_)
                refine lv_iload_n F.x F.cd dX2_pipeAt_116 rfl (lv_at hl 4 rfl) ?_
                refine lv_iload F.x F.cd dX2_pipeAt_117 (lv_at hl 0 rfl) ?_
                refine lv_if_gt (x := (pmore v j k)) (tgt := 133) F.x F.cd dX2_pipeAt_119 (by decide) (fun c_119 => ?_) (fun c_119 => ?_)
                · refine lv_iconst (v := (nI 1)) F.x F.cd dX2_pipeAt_133 (by decide) ?_
                  refine lv_goto (tgt := 138) F.x F.cd dX2_pipeAt_134 (by decide) ?_
                  refine W.eq (g2 := F0 m_ 138 ls (.int (nI (if aheadP v j k then 1 else 0)) :: .int (nI (aheadPN v k j)) :: [])) (by rw [if_pos (by unfold aheadP; first | (simp [c_119]; done) | (simp [c_119]; omega) | (simp at c_124; simp [c_119]; done) | (simp at c_124; simp [c_119]; omega))]) ?_
                  refine a_iadd (v := (nI (aheadPN v k j + (if aheadP v j k then 1 else 0)))) F (nI_add _ _) dX2_pipeAt_138 ?_
                  refine lv_istore_n (lv' := [(3, .int (nI (aheadPN v k j + (if aheadP v j k then 1 else 0)))), (5, .int (pmore v j k)), (0, .ref (L 0)), (1, .int rk), (2, .int (nI k)), (4, .int (nI j))]) F.x F.cd dX2_pipeAt_139 rfl hl (by decide) rfl (fun ls hl => ?_)
                  refine lv_iinc (k := 5) (v := (nI (j + 1))) (lv' := [(4, .int (nI (j + 1))), (3, .int (nI (aheadPN v k j + (if aheadP v j k then 1 else 0)))), (5, .int (pmore v j k)), (0, .ref (L 0)), (1, .int rk), (2, .int (nI k))]) F.x F.cd dX2_pipeAt_140 hl rfl (inc_nI j 1) (by decide) rfl (fun ls hl => ?_)
                  refine lv_goto (tgt := 20) F.x F.cd dX2_pipeAt_143 (by decide) ?_
                  exact ih20 (j + 1) (by omega)  H locs ls hW (lv_sub hl [3, 4, 5, 1, 0] rfl)
                · refine lv_iload F.x F.cd dX2_pipeAt_122 (lv_at hl 0 rfl) ?_
                  refine lv_if_ne (x := (pmore v j k)) (tgt := 137) F.x F.cd dX2_pipeAt_124 (by decide) (fun c_124 => ?_) (fun c_124 => ?_)
                  · refine lv_iconst (v := (nI 0)) F.x F.cd dX2_pipeAt_137 (by decide) ?_
                    refine W.eq (g2 := F0 m_ 138 ls (.int (nI (if aheadP v j k then 1 else 0)) :: .int (nI (aheadPN v k j)) :: [])) (by rw [if_neg (by unfold aheadP; first | (simp [c_119, c_124]; done) | (simp [c_119, c_124]; omega) | (simp at c_124; simp [c_119, c_124]; done) | (simp at c_124; simp [c_119, c_124]; omega))]) ?_
                    refine a_iadd (v := (nI (aheadPN v k j + (if aheadP v j k then 1 else 0)))) F (nI_add _ _) dX2_pipeAt_138 ?_
                    refine lv_istore_n (lv' := [(3, .int (nI (aheadPN v k j + (if aheadP v j k then 1 else 0)))), (5, .int (pmore v j k)), (0, .ref (L 0)), (1, .int rk), (2, .int (nI k)), (4, .int (nI j))]) F.x F.cd dX2_pipeAt_139 rfl hl (by decide) rfl (fun ls hl => ?_)
                    refine lv_iinc (k := 5) (v := (nI (j + 1))) (lv' := [(4, .int (nI (j + 1))), (3, .int (nI (aheadPN v k j + (if aheadP v j k then 1 else 0)))), (5, .int (pmore v j k)), (0, .ref (L 0)), (1, .int rk), (2, .int (nI k))]) F.x F.cd dX2_pipeAt_140 hl rfl (inc_nI j 1) (by decide) rfl (fun ls hl => ?_)
                    refine lv_goto (tgt := 20) F.x F.cd dX2_pipeAt_143 (by decide) ?_
                    exact ih20 (j + 1) (by omega)  H locs ls hW (lv_sub hl [3, 4, 5, 1, 0] rfl)
                  · refine lv_iload F.x F.cd dX2_pipeAt_127 (lv_at hl 5 rfl) ?_
                    refine lv_iload_n F.x F.cd dX2_pipeAt_129 rfl (lv_at hl 3 rfl) ?_
                    refine n_icmp_ge (a := j) (b := k) (tgt := 137) F (by omega) (by omega) dX2_pipeAt_130 (by decide) (fun c_130 => ?_) (fun c_130 => ?_)
                    · refine lv_iconst (v := (nI 0)) F.x F.cd dX2_pipeAt_137 (by decide) ?_
                      refine W.eq (g2 := F0 m_ 138 ls (.int (nI (if aheadP v j k then 1 else 0)) :: .int (nI (aheadPN v k j)) :: [])) (by rw [if_neg (by unfold aheadP; first | (simp [c_119, c_124, c_130]; done) | (simp [c_119, c_124, c_130]; omega) | (simp at c_124; simp [c_119, c_124, c_130]; done) | (simp at c_124; simp [c_119, c_124, c_130]; omega))]) ?_
                      refine a_iadd (v := (nI (aheadPN v k j + (if aheadP v j k then 1 else 0)))) F (nI_add _ _) dX2_pipeAt_138 ?_
                      refine lv_istore_n (lv' := [(3, .int (nI (aheadPN v k j + (if aheadP v j k then 1 else 0)))), (5, .int (pmore v j k)), (0, .ref (L 0)), (1, .int rk), (2, .int (nI k)), (4, .int (nI j))]) F.x F.cd dX2_pipeAt_139 rfl hl (by decide) rfl (fun ls hl => ?_)
                      refine lv_iinc (k := 5) (v := (nI (j + 1))) (lv' := [(4, .int (nI (j + 1))), (3, .int (nI (aheadPN v k j + (if aheadP v j k then 1 else 0)))), (5, .int (pmore v j k)), (0, .ref (L 0)), (1, .int rk), (2, .int (nI k))]) F.x F.cd dX2_pipeAt_140 hl rfl (inc_nI j 1) (by decide) rfl (fun ls hl => ?_)
                      refine lv_goto (tgt := 20) F.x F.cd dX2_pipeAt_143 (by decide) ?_
                      exact ih20 (j + 1) (by omega)  H locs ls hW (lv_sub hl [3, 4, 5, 1, 0] rfl)
                    · refine lv_iconst (v := (nI 1)) F.x F.cd dX2_pipeAt_133 (by decide) ?_
                      refine lv_goto (tgt := 138) F.x F.cd dX2_pipeAt_134 (by decide) ?_
                      refine W.eq (g2 := F0 m_ 138 ls (.int (nI (if aheadP v j k then 1 else 0)) :: .int (nI (aheadPN v k j)) :: [])) (by rw [if_pos (by unfold aheadP; first | (simp [c_119, c_124, c_130]; done) | (simp [c_119, c_124, c_130]; omega) | (simp at c_124; simp [c_119, c_124, c_130]; done) | (simp at c_124; simp [c_119, c_124, c_130]; omega))]) ?_
                      refine a_iadd (v := (nI (aheadPN v k j + (if aheadP v j k then 1 else 0)))) F (nI_add _ _) dX2_pipeAt_138 ?_
                      refine lv_istore_n (lv' := [(3, .int (nI (aheadPN v k j + (if aheadP v j k then 1 else 0)))), (5, .int (pmore v j k)), (0, .ref (L 0)), (1, .int rk), (2, .int (nI k)), (4, .int (nI j))]) F.x F.cd dX2_pipeAt_139 rfl hl (by decide) rfl (fun ls hl => ?_)
                      refine lv_iinc (k := 5) (v := (nI (j + 1))) (lv' := [(4, .int (nI (j + 1))), (3, .int (nI (aheadPN v k j + (if aheadP v j k then 1 else 0)))), (5, .int (pmore v j k)), (0, .ref (L 0)), (1, .int rk), (2, .int (nI k))]) F.x F.cd dX2_pipeAt_140 hl rfl (inc_nI j 1) (by decide) rfl (fun ls hl => ?_)
                      refine lv_goto (tgt := 20) F.x F.cd dX2_pipeAt_143 (by decide) ?_
                      exact ih20 (j + 1) (by omega)  H locs ls hW (lv_sub hl [3, 4, 5, 1, 0] rfl)
        exact loop20 (v 1) 0 (by omega)  H locs ls hW (lv_sub hl [2, 3, 4, 1, 0] rfl)
  exact loop2 (v 1) 0 (by omega) (rfl) H locs ls hW (lv_sub hl [1, 2, 0] rfl)
set_option maxHeartbeats 4000000 in
theorem k_X2_fingerprint (g : Gh) (l : Launch) (σ : Sto) (L v : Nat → Nat) (hWk : IsWorks g σ L v) (hI : Inv v) : Ct g l yX2_fingerprint cX2_fingerprint 4 (some .long) ({ frames := 3, cells := 0, slots := 0, locals := 64 } : Room) [.ref (L 0)] σ (fun r σ' => r = some (.long (prP v (v 1))) ∧ σ' = σ) (nox) := by
  refine Ct.body (by decide) (Nat.le_of_ble_eq_true rfl) ?_
  intro p_ e_ s_ m_ args_ below_ meth_ c_ ls H locs Q F hW hl hQ
  have hl : lv_has ls 4 [(0, .ref (L 0))] := hl
  have hT := hWk.2.2.1
  have hP := hWk.2.2.2.1
  obtain ⟨mcT, nT, fT, eT, bT, -⟩ := id hT
  obtain ⟨mcP, nP, fP, eP, bP, -⟩ := id hP
  have hv0 := hI.1
  have hv1 := hI.2.1
  refine lv_ldc2 (v := (17 : Int64)) F.x F.cd F.ow (F.ts _ q807) dX2_fingerprint_0 ?_
  refine lv_lstore_n (lv' := [(1, .long (17 : Int64)), (0, .ref (L 0))]) F.x F.cd dX2_fingerprint_3 rfl hl (by decide) rfl (fun ls hl => ?_)
  refine lv_iconst (v := (nI 0)) F.x F.cd dX2_fingerprint_4 (by decide) ?_
  refine lv_istore_n (lv' := [(3, .int (nI 0)), (1, .long (17 : Int64)), (0, .ref (L 0))]) F.x F.cd dX2_fingerprint_5 rfl hl (by decide) rfl (fun ls hl => ?_)
  have loop6 : ∀ (n : Nat) (k : Nat), k + n = v 0 → ∀ (H : Heap) (locs : List Loc) (ls : Array Slot), Hl g σ H locs → lv_has ls 4 [(0, .ref (L 0)), (1, .long (prT v k)), (3, .int (nI k))] → W p_ l e_ ({ frames := 3, cells := 0, slots := 0, locals := 64 } : Room) s_ m_ args_ below_ meth_ c_ H locs 0 0 Q (F0 m_ 6 ls ([])) := by
    intro n
    induction n with
    | zero =>
      intro k hkn  H locs ls hW hl
      refine lv_iload_n F.x F.cd dX2_fingerprint_6 rfl (lv_at hl 2 rfl) ?_
      refine lv_aload_n F.x F.cd dX2_fingerprint_7 rfl (lv_at hl 0 rfl) ?_
      refine s_get F hW (ci := 1) (C := RX2) (T := TX2) (N := 6) (v := .ref (L 1)) (hWk.1) rfl in_X2 0 (by decide) q159 (fun _ h9 => h9) rfl dX2_fingerprint_8 ?_
      refine s_callF (As := []) (rest := [.int (nI k)]) (C := RJ2) (T := TJ2) (N := 3) (n := 0) F hW (k_J2_size g l σ _ _ _ _ hT) (eT) rfl (List.mem_of_getElem? (i := 0) rfl) q317 q272 q274 q72 q276 (by decide +kernel) rfl ⟨⟨Nat.le_of_ble_eq_true rfl, Nat.le_of_ble_eq_true rfl⟩, ⟨(Nat.le_of_ble_eq_true rfl), (Nat.le_of_ble_eq_true rfl)⟩⟩ (Nat.le_of_ble_eq_true rfl) hl.1 rfl dX2_fingerprint_11 cX_no (fun r1 σ1 H locs hp1 hW => ?_)
      obtain ⟨rfl, hs1⟩ := hp1
      rw [hs1] at hW
      refine W.eq (g2 := F0 m_ 16 ls (.int (nI (v 0)) :: .int (nI k) :: [])) rfl ?_
      refine n_icmp_ge (a := k) (b := v 0) (tgt := 51) F (by omega) (by omega) dX2_fingerprint_16 (by decide) (fun c_16 => ?_) (fun c_16 => ?_)
      · have hl : lv_has ls 4 [(0, .ref (L 0)), (1, .long (prP v 0)), (3, .int (nI k))] := by rw [← (show prT v k = prP v 0 by rw [show k = v 0 by omega]; rfl)]; exact hl
        refine lv_iconst (v := (nI 0)) F.x F.cd dX2_fingerprint_51 (by decide) ?_
        refine lv_istore_n (lv' := [(3, .int (nI 0)), (0, .ref (L 0)), (1, .long (prP v 0))]) F.x F.cd dX2_fingerprint_52 rfl hl (by decide) rfl (fun ls hl => ?_)
        have loop53 : ∀ (z : Nat) (j : Nat), j + z = v 1 → ∀ (H : Heap) (locs : List Loc) (ls : Array Slot), Hl g σ H locs → lv_has ls 4 [(0, .ref (L 0)), (1, .long (prP v j)), (3, .int (nI j))] → W p_ l e_ ({ frames := 3, cells := 0, slots := 0, locals := 64 } : Room) s_ m_ args_ below_ meth_ c_ H locs 0 0 Q (F0 m_ 53 ls ([])) := by
          intro z
          induction z with
          | zero =>
            intro j hkz  H locs ls hW hl
            refine lv_iload_n F.x F.cd dX2_fingerprint_53 rfl (lv_at hl 2 rfl) ?_
            refine lv_aload_n F.x F.cd dX2_fingerprint_54 rfl (lv_at hl 0 rfl) ?_
            refine s_get F hW (ci := 1) (C := RX2) (T := TX2) (N := 6) (v := .ref (L 2)) (hWk.1) rfl in_X2 1 (by decide) q162 (fun _ h9 => h9) rfl dX2_fingerprint_55 ?_
            refine s_callF (As := []) (rest := [.int (nI j)]) (C := RJ2) (T := TJ2) (N := 3) (n := 0) F hW (k_J2_size g l σ _ _ _ _ hP) (eP) rfl (List.mem_of_getElem? (i := 0) rfl) q317 q272 q274 q72 q276 (by decide +kernel) rfl ⟨⟨Nat.le_of_ble_eq_true rfl, Nat.le_of_ble_eq_true rfl⟩, ⟨(Nat.le_of_ble_eq_true rfl), (Nat.le_of_ble_eq_true rfl)⟩⟩ (Nat.le_of_ble_eq_true rfl) hl.1 rfl dX2_fingerprint_58 cX_no (fun r2 σ2 H locs hp2 hW => ?_)
            obtain ⟨rfl, hs2⟩ := hp2
            rw [hs2] at hW
            refine W.eq (g2 := F0 m_ 63 ls (.int (nI (v 1)) :: .int (nI j) :: [])) rfl ?_
            refine n_icmp_ge (a := j) (b := v 1) (tgt := 99) F (by omega) (by omega) dX2_fingerprint_63 (by decide) (fun c_63 => ?_) (fun c_63 => ?_)
            · refine lv_lload_n F.x F.cd dX2_fingerprint_99 rfl (lv_at hl 1 rfl) ?_
              subst hQ
              exact s_retl (v := (prP v j)) F hW (⟨by rw [show j = v 1 by omega], rfl⟩) ⟨(Nat.le_of_ble_eq_true rfl), (Nat.le_of_ble_eq_true rfl)⟩ dX2_fingerprint_100
            · exact absurd c_63 (by omega)
          | succ z ih53 =>
            intro j hkz  H locs ls hW hl
            refine lv_iload_n F.x F.cd dX2_fingerprint_53 rfl (lv_at hl 2 rfl) ?_
            refine lv_aload_n F.x F.cd dX2_fingerprint_54 rfl (lv_at hl 0 rfl) ?_
            refine s_get F hW (ci := 1) (C := RX2) (T := TX2) (N := 6) (v := .ref (L 2)) (hWk.1) rfl in_X2 1 (by decide) q162 (fun _ h9 => h9) rfl dX2_fingerprint_55 ?_
            refine s_callF (As := []) (rest := [.int (nI j)]) (C := RJ2) (T := TJ2) (N := 3) (n := 0) F hW (k_J2_size g l σ _ _ _ _ hP) (eP) rfl (List.mem_of_getElem? (i := 0) rfl) q317 q272 q274 q72 q276 (by decide +kernel) rfl ⟨⟨Nat.le_of_ble_eq_true rfl, Nat.le_of_ble_eq_true rfl⟩, ⟨(Nat.le_of_ble_eq_true rfl), (Nat.le_of_ble_eq_true rfl)⟩⟩ (Nat.le_of_ble_eq_true rfl) hl.1 rfl dX2_fingerprint_58 cX_no (fun r3 σ3 H locs hp3 hW => ?_)
            obtain ⟨rfl, hs3⟩ := hp3
            rw [hs3] at hW
            refine W.eq (g2 := F0 m_ 63 ls (.int (nI (v 1)) :: .int (nI j) :: [])) rfl ?_
            refine n_icmp_ge (a := j) (b := v 1) (tgt := 99) F (by omega) (by omega) dX2_fingerprint_63 (by decide) (fun c_63 => ?_) (fun c_63 => ?_)
            · exact absurd c_63 (by omega)
            · have hpp := hI.pp (q := j) (by omega)
              refine lv_lload_n F.x F.cd dX2_fingerprint_66 rfl (lv_at hl 1 rfl) ?_
              refine lv_bipush (v := (nI 7)) F.x F.cd dX2_fingerprint_67 (by decide) ?_
              refine lv_lshl (v := ((prP v j) <<< (Int32.toInt64 (nI 7) &&& 63))) F.x F.cd dX2_fingerprint_69 (rfl) ?_
              refine lv_lload_n F.x F.cd dX2_fingerprint_70 rfl (lv_at hl 1 rfl) ?_
              refine lv_bipush (v := (nI 57)) F.x F.cd dX2_fingerprint_71 (by decide) ?_
              refine lv_lushr (v := ((Int64.toUInt64 (prP v j) >>> ((Int32.toInt64 (nI 57)).toUInt64 &&& Int64.toUInt64 63)).toInt64)) F.x F.cd dX2_fingerprint_73 (rfl) ?_
              refine a_lor (v := (rot7 (prP v j))) F (rfl) dX2_fingerprint_74 ?_
              refine lv_aload_n F.x F.cd dX2_fingerprint_75 rfl (lv_at hl 0 rfl) ?_
              refine s_get F hW (ci := 1) (C := RX2) (T := TX2) (N := 6) (v := .ref (L 2)) (hWk.1) rfl in_X2 1 (by decide) q162 (fun _ h9 => h9) rfl dX2_fingerprint_76 ?_
              refine lv_iload_n F.x F.cd dX2_fingerprint_79 rfl (lv_at hl 2 rfl) ?_
              refine s_callF (As := [.int (nI j)]) (rest := [.long (rot7 (prP v j))]) (C := RJ2) (T := TJ2) (N := 3) (n := 1) F hW (k_J2_get g l σ _ _ _ _ j hP (by omega)) (eP) rfl (List.mem_of_getElem? (i := 1) rfl) q693 q328 q330 q72 q332 (by decide +kernel) rfl ⟨⟨Nat.le_of_ble_eq_true rfl, Nat.le_of_ble_eq_true rfl⟩, ⟨(Nat.le_of_ble_eq_true rfl), (Nat.le_of_ble_eq_true rfl)⟩⟩ (Nat.le_of_ble_eq_true rfl) hl.1 rfl dX2_fingerprint_80 cX_no (fun r4 σ4 H locs hp4 hW => ?_)
              obtain ⟨rfl, hs4⟩ := hp4
              rw [hs4] at hW
              refine W.eq (g2 := F0 m_ 85 ls (.ref (L (100 + j)) :: .long (rot7 (prP v j)) :: [])) rfl ?_
              refine s_cast_ F hW (C := RX5) (T := TX5) (N := 7) ((hWk.2.2.2.2.2.1 j (by omega)).1) rfl q694 dX2_fingerprint_85 ?_
              refine s_callV (As := []) (rest := [.long (rot7 (prP v j))]) (C := RX5) (T := TX5) (N := 7) (n := 0) F hW (k_X5_mark g l σ (L (100 + j)) (pA v j) (pB v j) (pM v j) (pV v j) (pR v j) (pD v j) (pL v j) ((hWk.2.2.2.2.2.1 j (by omega)).1) (by omega) (by omega) (by omega) (by omega)) ((hWk.2.2.2.2.2.1 j (by omega)).1) rfl q814 q815 q816 q96 q817 rfl (by decide +kernel) rfl ⟨⟨Nat.le_of_ble_eq_true rfl, Nat.le_of_ble_eq_true rfl⟩, ⟨(Nat.le_of_ble_eq_true rfl), (Nat.le_of_ble_eq_true rfl)⟩⟩ (Nat.le_of_ble_eq_true rfl) hl.1 rfl dX2_fingerprint_88 cX_no (fun r5 σ5 H locs hp5 hW => ?_)
              obtain ⟨rfl, hs5⟩ := hp5
              rw [hs5] at hW
              refine W.eq (g2 := F0 m_ 91 ls (.long (lN ((pV v j) + 5 * (pD v j) + 1000 * (pR v j) + 10000 * (pM v j))) :: .long (rot7 (prP v j)) :: [])) rfl ?_
              refine a_lxor (v := ((rot7 (prP v j)) ^^^ (lN ((pV v j) + 5 * (pD v j) + 1000 * (pR v j) + 10000 * (pM v j))))) F (rfl) dX2_fingerprint_91 ?_
              refine lv_lstore_n (lv' := [(1, .long ((rot7 (prP v j)) ^^^ (lN ((pV v j) + 5 * (pD v j) + 1000 * (pR v j) + 10000 * (pM v j))))), (0, .ref (L 0)), (3, .int (nI j))]) F.x F.cd dX2_fingerprint_92 rfl hl (by decide) rfl (fun ls hl => ?_)
              refine lv_iinc (k := 2) (v := (nI (j + 1))) (lv' := [(3, .int (nI (j + 1))), (1, .long ((rot7 (prP v j)) ^^^ (lN ((pV v j) + 5 * (pD v j) + 1000 * (pR v j) + 10000 * (pM v j))))), (0, .ref (L 0))]) F.x F.cd dX2_fingerprint_93 hl rfl (inc_nI j 1) (by decide) rfl (fun ls hl => ?_)
              refine lv_goto (tgt := 53) F.x F.cd dX2_fingerprint_96 (by decide) ?_
              exact ih53 (j + 1) (by omega)  H locs ls hW (lv_sub hl [2, 1, 0] rfl)
        exact loop53 (v 1) 0 (by omega)  H locs ls hW (lv_sub hl [1, 2, 0] rfl)
      · exact absurd c_16 (by omega)
    | succ n ih6 =>
      intro k hkn  H locs ls hW hl
      refine lv_iload_n F.x F.cd dX2_fingerprint_6 rfl (lv_at hl 2 rfl) ?_
      refine lv_aload_n F.x F.cd dX2_fingerprint_7 rfl (lv_at hl 0 rfl) ?_
      refine s_get F hW (ci := 1) (C := RX2) (T := TX2) (N := 6) (v := .ref (L 1)) (hWk.1) rfl in_X2 0 (by decide) q159 (fun _ h9 => h9) rfl dX2_fingerprint_8 ?_
      refine s_callF (As := []) (rest := [.int (nI k)]) (C := RJ2) (T := TJ2) (N := 3) (n := 0) F hW (k_J2_size g l σ _ _ _ _ hT) (eT) rfl (List.mem_of_getElem? (i := 0) rfl) q317 q272 q274 q72 q276 (by decide +kernel) rfl ⟨⟨Nat.le_of_ble_eq_true rfl, Nat.le_of_ble_eq_true rfl⟩, ⟨(Nat.le_of_ble_eq_true rfl), (Nat.le_of_ble_eq_true rfl)⟩⟩ (Nat.le_of_ble_eq_true rfl) hl.1 rfl dX2_fingerprint_11 cX_no (fun r6 σ6 H locs hp6 hW => ?_)
      obtain ⟨rfl, hs6⟩ := hp6
      rw [hs6] at hW
      refine W.eq (g2 := F0 m_ 16 ls (.int (nI (v 0)) :: .int (nI k) :: [])) rfl ?_
      refine n_icmp_ge (a := k) (b := v 0) (tgt := 51) F (by omega) (by omega) dX2_fingerprint_16 (by decide) (fun c_16 => ?_) (fun c_16 => ?_)
      · exact absurd c_16 (by omega)
      · have htk := hI.tk (t := k) (by omega)
        refine lv_lload_n F.x F.cd dX2_fingerprint_19 rfl (lv_at hl 1 rfl) ?_
        refine lv_iconst (v := (nI 5)) F.x F.cd dX2_fingerprint_20 (by decide) ?_
        refine lv_lshl (v := ((prT v k) <<< (Int32.toInt64 (nI 5) &&& 63))) F.x F.cd dX2_fingerprint_21 (rfl) ?_
        refine lv_lload_n F.x F.cd dX2_fingerprint_22 rfl (lv_at hl 1 rfl) ?_
        refine lv_bipush (v := (nI 59)) F.x F.cd dX2_fingerprint_23 (by decide) ?_
        refine lv_lushr (v := ((Int64.toUInt64 (prT v k) >>> ((Int32.toInt64 (nI 59)).toUInt64 &&& Int64.toUInt64 63)).toInt64)) F.x F.cd dX2_fingerprint_25 (rfl) ?_
        refine a_lor (v := (rot5 (prT v k))) F (rfl) dX2_fingerprint_26 ?_
        refine lv_aload_n F.x F.cd dX2_fingerprint_27 rfl (lv_at hl 0 rfl) ?_
        refine s_get F hW (ci := 1) (C := RX2) (T := TX2) (N := 6) (v := .ref (L 1)) (hWk.1) rfl in_X2 0 (by decide) q159 (fun _ h9 => h9) rfl dX2_fingerprint_28 ?_
        refine lv_iload_n F.x F.cd dX2_fingerprint_31 rfl (lv_at hl 2 rfl) ?_
        refine s_callF (As := [.int (nI k)]) (rest := [.long (rot5 (prT v k))]) (C := RJ2) (T := TJ2) (N := 3) (n := 1) F hW (k_J2_get g l σ _ _ _ _ k hT (by omega)) (eT) rfl (List.mem_of_getElem? (i := 1) rfl) q693 q328 q330 q72 q332 (by decide +kernel) rfl ⟨⟨Nat.le_of_ble_eq_true rfl, Nat.le_of_ble_eq_true rfl⟩, ⟨(Nat.le_of_ble_eq_true rfl), (Nat.le_of_ble_eq_true rfl)⟩⟩ (Nat.le_of_ble_eq_true rfl) hl.1 rfl dX2_fingerprint_32 cX_no (fun r7 σ7 H locs hp7 hW => ?_)
        obtain ⟨rfl, hs7⟩ := hp7
        rw [hs7] at hW
        refine W.eq (g2 := F0 m_ 37 ls (.ref (L (10 + k)) :: .long (rot5 (prT v k)) :: [])) rfl ?_
        refine s_cast_ F hW (C := RX4) (T := TX4) (N := 3) ((hWk.2.2.2.2.1 k (by omega)).1) rfl q790 dX2_fingerprint_37 ?_
        refine s_callV (As := []) (rest := [.long (rot5 (prT v k))]) (C := RX4) (T := TX4) (N := 3) (n := 0) F hW (k_X4_mark g l σ (L (10 + k)) (tC v k) (tK v k) (tI v k) ((hWk.2.2.2.2.1 k (by omega)).1) (by omega) (by omega) (by omega)) ((hWk.2.2.2.2.1 k (by omega)).1) rfl q808 q809 q810 q94 q811 rfl (by decide +kernel) rfl ⟨⟨Nat.le_of_ble_eq_true rfl, Nat.le_of_ble_eq_true rfl⟩, ⟨(Nat.le_of_ble_eq_true rfl), (Nat.le_of_ble_eq_true rfl)⟩⟩ (Nat.le_of_ble_eq_true rfl) hl.1 rfl dX2_fingerprint_40 cX_no (fun r8 σ8 H locs hp8 hW => ?_)
        obtain ⟨rfl, hs8⟩ := hp8
        rw [hs8] at hW
        refine W.eq (g2 := F0 m_ 43 ls (.long (lN ((tK v k) + 1000 * (tC v k) + 1000000 * (tI v k))) :: .long (rot5 (prT v k)) :: [])) rfl ?_
        refine a_lxor (v := ((rot5 (prT v k)) ^^^ (lN ((tK v k) + 1000 * (tC v k) + 1000000 * (tI v k))))) F (rfl) dX2_fingerprint_43 ?_
        refine lv_lstore_n (lv' := [(1, .long ((rot5 (prT v k)) ^^^ (lN ((tK v k) + 1000 * (tC v k) + 1000000 * (tI v k))))), (0, .ref (L 0)), (3, .int (nI k))]) F.x F.cd dX2_fingerprint_44 rfl hl (by decide) rfl (fun ls hl => ?_)
        refine lv_iinc (k := 2) (v := (nI (k + 1))) (lv' := [(3, .int (nI (k + 1))), (1, .long ((rot5 (prT v k)) ^^^ (lN ((tK v k) + 1000 * (tC v k) + 1000000 * (tI v k))))), (0, .ref (L 0))]) F.x F.cd dX2_fingerprint_45 hl rfl (inc_nI k 1) (by decide) rfl (fun ls hl => ?_)
        refine lv_goto (tgt := 6) F.x F.cd dX2_fingerprint_48 (by decide) ?_
        exact ih6 (k + 1) (by omega)  H locs ls hW (lv_sub hl [2, 1, 0] rfl)
  exact loop6 (v 0) 0 (by omega)  H locs ls hW (lv_sub hl [2, 1, 0] rfl)
