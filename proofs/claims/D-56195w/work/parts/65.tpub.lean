/-! ===== the twin: public methods ===== -/
set_option maxRecDepth 100000
set_option maxHeartbeats 4000000 in
theorem k_X3_addTank (g : Gh) (l : Launch) (σ : Sto) (m : Nat) (A : Nat → Nat) (iv : Nat → Int32) (wd : Nat) (ar : Nat → Nat → Nat) (rb : Nat → Bool) (c : Int32) (u : Nat) (hw : IsTw g σ m A iv wd ar rb) (hI : Inv (ar 0)) (hu : iv 3 = nI u) (hu8 : u ≤ 8) : Ct g l yX3_addTank cX3_addTank 2 (some .int) ({ frames := 2, cells := 0, slots := 0, locals := 44 } : Room) [.ref m, .int c] σ (fun r σ' => TP g σ m A iv wd ar rb u (tankR (ar 0) c) en2 r σ') (nox) := by
  refine Ct.body (by decide) (Nat.le_of_ble_eq_true rfl) ?_
  intro p_ e_ s_ m_ args_ below_ meth_ c_ ls H locs Q F hW hl hQ
  have hl : lv_has ls 2 [(0, .ref m), (1, .int c)] := hl
  obtain ⟨t0, tb0, ta0, ta1, ta2, ta3, ta4, ta5, ta6, ta7, tbb, tii⟩ := id hw
  refine lv_aload_n F.x F.cd dX3_addTank_0 rfl (lv_at hl 0 rfl) ?_
  refine s_callV (As := []) (rest := []) (C := RX3) (T := TX3) (N := 18) (n := 0) F hW (k_X3_tries g l σ m A _ _ _ _  hw ) (t0) rfl q2343 q2345 qs33 q79 q2346 rfl (by decide +kernel) rfl ⟨⟨Nat.le_of_ble_eq_true rfl, Nat.le_of_ble_eq_true rfl⟩, ⟨(Nat.le_of_ble_eq_true rfl), (Nat.le_of_ble_eq_true rfl)⟩⟩ (Nat.le_of_ble_eq_true rfl) hl.1 rfl dX3_addTank_1 cX_no (fun r1 σ1 H locs hp1 hW => ?_)
  obtain ⟨rfl, tv1, fv1⟩ := hp1
  refine W.eq (g2 := F0 m_ 4 ls ([])) rfl ?_
  obtain ⟨t0_2, -, ta0_2, ta1_2, ta2_2, ta3_2, ta4_2, ta5_2, ta6_2, ta7_2, -, -⟩ := id tv1
  have fm_2 : Fm σ σ1 m A := (Fm.refl).trans fv1
  have tw_2 : IsTw g σ1 m A (va_up iv 17 (nI 0)) wd (va_up ar 1 (ar 0)) rb := ⟨t0_2, tb0, ta0_2, ta1_2, ta2_2, ta3_2, ta4_2, ta5_2, ta6_2, ta7_2, tbb, tii⟩
  refine lv_aload_n F.x F.cd dX3_addTank_4 rfl (lv_at hl 0 rfl) ?_
  refine lv_aload_n F.x F.cd dX3_addTank_5 rfl (lv_at hl 0 rfl) ?_
  refine lv_iload_n F.x F.cd dX3_addTank_6 rfl (lv_at hl 1 rfl) ?_
  refine s_callV (As := [.int c]) (rest := [.ref m]) (C := RX3) (T := TX3) (N := 18) (n := 1) F hW (k_X3_tanks g l σ1 m A _ _ _ _ c tw_2 hI ) (t0_2) rfl q2347 q2349 qs34 q79 q2350 rfl (by decide +kernel) rfl ⟨⟨Nat.le_of_ble_eq_true rfl, Nat.le_of_ble_eq_true rfl⟩, ⟨(Nat.le_of_ble_eq_true rfl), (Nat.le_of_ble_eq_true rfl)⟩⟩ (Nat.le_of_ble_eq_true rfl) hl.1 rfl dX3_addTank_7 cX_no (fun r3 σ3 H locs hp3 hW => ?_)
  obtain ⟨fv3, hp3⟩ := hp3; rcases hp3 with hp3 | hp3
  · obtain ⟨z3, w3, hR3, rfl, tv3⟩ := hp3
    have hR3 : tankR (ar 0) c = .ok (z3, w3) := hR3
    refine W.eq (g2 := F0 m_ 10 ls (.int (nI 0) :: .ref m :: [])) rfl ?_
    obtain ⟨t0_4, -, ta0_4, ta1_4, ta2_4, ta3_4, ta4_4, ta5_4, ta6_4, ta7_4, -, -⟩ := id tv3
    have fm_4 : Fm σ σ3 m A := (fm_2).trans fv3
    have tw_4 : IsTw g σ3 m A (va_up (va_up iv 16 z3) 17 (nI 0)) wd (va_up (va_up ar 0 w3) 1 (ar 0)) rb := ⟨t0_4, tb0, ta0_4, ta1_4, ta2_4, ta3_4, ta4_4, ta5_4, ta6_4, ta7_4, tbb, tii⟩
    refine s_callV (As := [.int (nI 0)]) (rest := []) (C := RX3) (T := TX3) (N := 18) (n := 1) F hW (k_X3_ends g l σ3 m A _ _ _ _ 0 u tw_4 (by omega) hu hu8) (t0_4) rfl q2358 q2360 qs36 q79 q2361 rfl (by decide +kernel) rfl ⟨⟨Nat.le_of_ble_eq_true rfl, Nat.le_of_ble_eq_true rfl⟩, ⟨(Nat.le_of_ble_eq_true rfl), (Nat.le_of_ble_eq_true rfl)⟩⟩ (Nat.le_of_ble_eq_true rfl) hl.1 rfl dX3_addTank_10 cX_no (fun r5 σ5 H locs hp5 hW => ?_)
    obtain ⟨rfl, tv5, fv5⟩ := hp5.2 rfl
    refine W.eq (g2 := F0 m_ 13 ls (.int z3 :: [])) rfl ?_
    obtain ⟨t0_6, -, ta0_6, ta1_6, ta2_6, ta3_6, ta4_6, ta5_6, ta6_6, ta7_6, -, -⟩ := id tv5
    have fm_6 : Fm σ σ5 m A := (fm_4).trans fv5
    have tw_6 : IsTw g σ5 m A (va_up (va_up (va_up iv 3 (nI (min u 7 + 1))) 16 z3) 17 (nI 0)) wd (va_up (va_up (va_up ar 0 w3) 1 (ar 0)) 2 (cpT (ar 0) (if u = 8 then shT (ar 2) 798 else (ar 2)) (114 * min u 7) 114)) rb := ⟨t0_6, tb0, ta0_6, ta1_6, ta2_6, ta3_6, ta4_6, ta5_6, ta6_6, ta7_6, tbb, tii⟩
    subst hQ
    exact s_reti (v := z3) F hW rfl (⟨fm_6, Or.inl ⟨_, _, (rfl).trans hR3, rfl, tw_6⟩⟩) ⟨(Nat.le_of_ble_eq_true rfl), (Nat.le_of_ble_eq_true rfl)⟩ dX3_addTank_13
  · obtain ⟨tx3, hR3, rfl, tv3⟩ := hp3
    have hR3 : tankR (ar 0) c = .error tx3 := hR3
    refine W.eq (g2 := F0 m_ 10 ls (.int (nI (en2 tx3)) :: .ref m :: [])) rfl ?_
    obtain ⟨t0_7, -, ta0_7, ta1_7, ta2_7, ta3_7, ta4_7, ta5_7, ta6_7, ta7_7, -, -⟩ := id tv3
    have fm_7 : Fm σ σ3 m A := (fm_2).trans fv3
    have tw_7 : IsTw g σ3 m A (va_up iv 17 (nI 0)) wd (va_up ar 1 (ar 0)) rb := ⟨t0_7, tb0, ta0_7, ta1_7, ta2_7, ta3_7, ta4_7, ta5_7, ta6_7, ta7_7, tbb, tii⟩
    have hbd3 := en2_bd tx3
    refine s_callV (As := [.int (nI (en2 tx3))]) (rest := []) (C := RX3) (T := TX3) (N := 18) (n := 1) F hW (k_X3_ends g l σ3 m A _ _ _ _ (en2 tx3) u tw_7 (by omega) hu hu8) (t0_7) rfl q2358 q2360 qs36 q79 q2361 rfl (by decide +kernel) rfl ⟨⟨Nat.le_of_ble_eq_true rfl, Nat.le_of_ble_eq_true rfl⟩, ⟨(Nat.le_of_ble_eq_true rfl), (Nat.le_of_ble_eq_true rfl)⟩⟩ (Nat.le_of_ble_eq_true rfl) hl.1 rfl dX3_addTank_10 cX_no (fun r8 σ8 H locs hp8 hW => ?_)
    obtain ⟨rfl, tv8, fv8⟩ := hp8.1 (by omega)
    refine W.eq (g2 := F0 m_ 13 ls (.int (nI 0) :: [])) rfl ?_
    obtain ⟨t0_9, -, ta0_9, ta1_9, ta2_9, ta3_9, ta4_9, ta5_9, ta6_9, ta7_9, -, -⟩ := id tv8
    have fm_9 : Fm σ σ8 m A := (fm_7).trans fv8
    have tw_9 : IsTw g σ8 m A (va_up iv 17 (nI (en2 tx3))) wd (va_up ar 1 (ar 0)) rb := ⟨t0_9, tb0, ta0_9, ta1_9, ta2_9, ta3_9, ta4_9, ta5_9, ta6_9, ta7_9, tbb, tii⟩
    subst hQ
    exact s_reti (v := (nI 0)) F hW rfl (⟨fm_9, Or.inr ⟨_, (rfl).trans hR3, rfl, tw_9⟩⟩) ⟨(Nat.le_of_ble_eq_true rfl), (Nat.le_of_ble_eq_true rfl)⟩ dX3_addTank_13
set_option maxHeartbeats 4000000 in
theorem k_X3_addPipe (g : Gh) (l : Launch) (σ : Sto) (m : Nat) (A : Nat → Nat) (iv : Nat → Int32) (wd : Nat) (ar : Nat → Nat → Nat) (rb : Nat → Bool) (a b w : Int32) (u : Nat) (hw : IsTw g σ m A iv wd ar rb) (hI : Inv (ar 0)) (hu : iv 3 = nI u) (hu8 : u ≤ 8) : Ct g l yX3_addPipe cX3_addPipe 4 (some .int) ({ frames := 3, cells := 1, slots := 7, locals := 69 } : Room) [.ref m, .int a, .int b, .int w] σ (fun r σ' => TP g σ m A iv wd ar rb u (pipeR (ar 0) a b w) en3 r σ') (nox) := by
  refine Ct.body (by decide) (Nat.le_of_ble_eq_true rfl) ?_
  intro p_ e_ s_ m_ args_ below_ meth_ c_ ls H locs Q F hW hl hQ
  have hl : lv_has ls 4 [(0, .ref m), (1, .int a), (2, .int b), (3, .int w)] := hl
  obtain ⟨t0, tb0, ta0, ta1, ta2, ta3, ta4, ta5, ta6, ta7, tbb, tii⟩ := id hw
  refine lv_aload_n F.x F.cd dX3_addPipe_0 rfl (lv_at hl 0 rfl) ?_
  refine s_callV (As := []) (rest := []) (C := RX3) (T := TX3) (N := 18) (n := 0) F hW (k_X3_tries g l σ m A _ _ _ _  hw ) (t0) rfl q2343 q2345 qs33 q79 q2346 rfl (by decide +kernel) rfl ⟨⟨Nat.le_of_ble_eq_true rfl, Nat.le_of_ble_eq_true rfl⟩, ⟨(Nat.le_of_ble_eq_true rfl), (Nat.le_of_ble_eq_true rfl)⟩⟩ (Nat.le_of_ble_eq_true rfl) hl.1 rfl dX3_addPipe_1 cX_no (fun r1 σ1 H locs hp1 hW => ?_)
  obtain ⟨rfl, tv1, fv1⟩ := hp1
  refine W.eq (g2 := F0 m_ 4 ls ([])) rfl ?_
  obtain ⟨t0_2, -, ta0_2, ta1_2, ta2_2, ta3_2, ta4_2, ta5_2, ta6_2, ta7_2, -, -⟩ := id tv1
  have fm_2 : Fm σ σ1 m A := (Fm.refl).trans fv1
  have tw_2 : IsTw g σ1 m A (va_up iv 17 (nI 0)) wd (va_up ar 1 (ar 0)) rb := ⟨t0_2, tb0, ta0_2, ta1_2, ta2_2, ta3_2, ta4_2, ta5_2, ta6_2, ta7_2, tbb, tii⟩
  refine lv_aload_n F.x F.cd dX3_addPipe_4 rfl (lv_at hl 0 rfl) ?_
  refine lv_aload_n F.x F.cd dX3_addPipe_5 rfl (lv_at hl 0 rfl) ?_
  refine lv_iload_n F.x F.cd dX3_addPipe_6 rfl (lv_at hl 1 rfl) ?_
  refine lv_iload_n F.x F.cd dX3_addPipe_7 rfl (lv_at hl 2 rfl) ?_
  refine lv_iload_n F.x F.cd dX3_addPipe_8 rfl (lv_at hl 3 rfl) ?_
  refine s_callV (As := [.int a, .int b, .int w]) (rest := [.ref m]) (C := RX3) (T := TX3) (N := 18) (n := 3) F hW (k_X3_pipes g l σ1 m A _ _ _ _ a b w tw_2 hI ) (t0_2) rfl q2370 q2372 qs38 q79 q2373 rfl (by decide +kernel) rfl ⟨⟨Nat.le_of_ble_eq_true rfl, Nat.le_of_ble_eq_true rfl⟩, ⟨(Nat.le_of_ble_eq_true rfl), (Nat.le_of_ble_eq_true rfl)⟩⟩ (Nat.le_of_ble_eq_true rfl) hl.1 rfl dX3_addPipe_9 cX_no (fun r3 σ3 H locs hp3 hW => ?_)
  obtain ⟨fv3, hp3⟩ := hp3; rcases hp3 with hp3 | hp3
  · obtain ⟨z3, w3, hR3, rfl, tv3⟩ := hp3
    have hR3 : pipeR (ar 0) a b w = .ok (z3, w3) := hR3
    refine W.eq (g2 := F0 m_ 12 ls (.int (nI 0) :: .ref m :: [])) rfl ?_
    obtain ⟨t0_4, -, ta0_4, ta1_4, ta2_4, ta3_4, ta4_4, ta5_4, ta6_4, ta7_4, -, -⟩ := id tv3
    have fm_4 : Fm σ σ3 m A := (fm_2).trans fv3
    have tw_4 : IsTw g σ3 m A (va_up (va_up iv 16 z3) 17 (nI 0)) wd (va_up (va_up ar 0 w3) 1 (ar 0)) rb := ⟨t0_4, tb0, ta0_4, ta1_4, ta2_4, ta3_4, ta4_4, ta5_4, ta6_4, ta7_4, tbb, tii⟩
    refine s_callV (As := [.int (nI 0)]) (rest := []) (C := RX3) (T := TX3) (N := 18) (n := 1) F hW (k_X3_ends g l σ3 m A _ _ _ _ 0 u tw_4 (by omega) hu hu8) (t0_4) rfl q2358 q2360 qs36 q79 q2361 rfl (by decide +kernel) rfl ⟨⟨Nat.le_of_ble_eq_true rfl, Nat.le_of_ble_eq_true rfl⟩, ⟨(Nat.le_of_ble_eq_true rfl), (Nat.le_of_ble_eq_true rfl)⟩⟩ (Nat.le_of_ble_eq_true rfl) hl.1 rfl dX3_addPipe_12 cX_no (fun r5 σ5 H locs hp5 hW => ?_)
    obtain ⟨rfl, tv5, fv5⟩ := hp5.2 rfl
    refine W.eq (g2 := F0 m_ 15 ls (.int z3 :: [])) rfl ?_
    obtain ⟨t0_6, -, ta0_6, ta1_6, ta2_6, ta3_6, ta4_6, ta5_6, ta6_6, ta7_6, -, -⟩ := id tv5
    have fm_6 : Fm σ σ5 m A := (fm_4).trans fv5
    have tw_6 : IsTw g σ5 m A (va_up (va_up (va_up iv 3 (nI (min u 7 + 1))) 16 z3) 17 (nI 0)) wd (va_up (va_up (va_up ar 0 w3) 1 (ar 0)) 2 (cpT (ar 0) (if u = 8 then shT (ar 2) 798 else (ar 2)) (114 * min u 7) 114)) rb := ⟨t0_6, tb0, ta0_6, ta1_6, ta2_6, ta3_6, ta4_6, ta5_6, ta6_6, ta7_6, tbb, tii⟩
    subst hQ
    exact s_reti (v := z3) F hW rfl (⟨fm_6, Or.inl ⟨_, _, (rfl).trans hR3, rfl, tw_6⟩⟩) ⟨(Nat.le_of_ble_eq_true rfl), (Nat.le_of_ble_eq_true rfl)⟩ dX3_addPipe_15
  · obtain ⟨tx3, hR3, rfl, tv3⟩ := hp3
    have hR3 : pipeR (ar 0) a b w = .error tx3 := hR3
    refine W.eq (g2 := F0 m_ 12 ls (.int (nI (en3 tx3)) :: .ref m :: [])) rfl ?_
    obtain ⟨t0_7, -, ta0_7, ta1_7, ta2_7, ta3_7, ta4_7, ta5_7, ta6_7, ta7_7, -, -⟩ := id tv3
    have fm_7 : Fm σ σ3 m A := (fm_2).trans fv3
    have tw_7 : IsTw g σ3 m A (va_up iv 17 (nI 0)) wd (va_up ar 1 (ar 0)) rb := ⟨t0_7, tb0, ta0_7, ta1_7, ta2_7, ta3_7, ta4_7, ta5_7, ta6_7, ta7_7, tbb, tii⟩
    have hbd3 := en3_bd tx3
    refine s_callV (As := [.int (nI (en3 tx3))]) (rest := []) (C := RX3) (T := TX3) (N := 18) (n := 1) F hW (k_X3_ends g l σ3 m A _ _ _ _ (en3 tx3) u tw_7 (by omega) hu hu8) (t0_7) rfl q2358 q2360 qs36 q79 q2361 rfl (by decide +kernel) rfl ⟨⟨Nat.le_of_ble_eq_true rfl, Nat.le_of_ble_eq_true rfl⟩, ⟨(Nat.le_of_ble_eq_true rfl), (Nat.le_of_ble_eq_true rfl)⟩⟩ (Nat.le_of_ble_eq_true rfl) hl.1 rfl dX3_addPipe_12 cX_no (fun r8 σ8 H locs hp8 hW => ?_)
    obtain ⟨rfl, tv8, fv8⟩ := hp8.1 (by omega)
    refine W.eq (g2 := F0 m_ 15 ls (.int (nI 0) :: [])) rfl ?_
    obtain ⟨t0_9, -, ta0_9, ta1_9, ta2_9, ta3_9, ta4_9, ta5_9, ta6_9, ta7_9, -, -⟩ := id tv8
    have fm_9 : Fm σ σ8 m A := (fm_7).trans fv8
    have tw_9 : IsTw g σ8 m A (va_up iv 17 (nI (en3 tx3))) wd (va_up ar 1 (ar 0)) rb := ⟨t0_9, tb0, ta0_9, ta1_9, ta2_9, ta3_9, ta4_9, ta5_9, ta6_9, ta7_9, tbb, tii⟩
    subst hQ
    exact s_reti (v := (nI 0)) F hW rfl (⟨fm_9, Or.inr ⟨_, (rfl).trans hR3, rfl, tw_9⟩⟩) ⟨(Nat.le_of_ble_eq_true rfl), (Nat.le_of_ble_eq_true rfl)⟩ dX3_addPipe_15
set_option maxHeartbeats 4000000 in
theorem k_X3_pour (g : Gh) (l : Launch) (σ : Sto) (m : Nat) (A : Nat → Nat) (iv : Nat → Int32) (wd : Nat) (ar : Nat → Nat → Nat) (rb : Nat → Bool) (a x s : Int32) (u : Nat) (hw : IsTw g σ m A iv wd ar rb) (hI : Inv (ar 0)) (hu : iv 3 = nI u) (hu8 : u ≤ 8) : Ct g l yX3_pour cX3_pour 4 (some .int) ({ frames := 3, cells := 0, slots := 0, locals := 67 } : Room) [.ref m, .int a, .int x, .int s] σ (fun r σ' => TP g σ m A iv wd ar rb u (pourR (ar 0) a x s) en3 r σ') (nox) := by
  refine Ct.body (by decide) (Nat.le_of_ble_eq_true rfl) ?_
  intro p_ e_ s_ m_ args_ below_ meth_ c_ ls H locs Q F hW hl hQ
  have hl : lv_has ls 4 [(0, .ref m), (1, .int a), (2, .int x), (3, .int s)] := hl
  obtain ⟨t0, tb0, ta0, ta1, ta2, ta3, ta4, ta5, ta6, ta7, tbb, tii⟩ := id hw
  refine lv_aload_n F.x F.cd dX3_pour_0 rfl (lv_at hl 0 rfl) ?_
  refine s_callV (As := []) (rest := []) (C := RX3) (T := TX3) (N := 18) (n := 0) F hW (k_X3_tries g l σ m A _ _ _ _  hw ) (t0) rfl q2343 q2345 qs33 q79 q2346 rfl (by decide +kernel) rfl ⟨⟨Nat.le_of_ble_eq_true rfl, Nat.le_of_ble_eq_true rfl⟩, ⟨(Nat.le_of_ble_eq_true rfl), (Nat.le_of_ble_eq_true rfl)⟩⟩ (Nat.le_of_ble_eq_true rfl) hl.1 rfl dX3_pour_1 cX_no (fun r1 σ1 H locs hp1 hW => ?_)
  obtain ⟨rfl, tv1, fv1⟩ := hp1
  refine W.eq (g2 := F0 m_ 4 ls ([])) rfl ?_
  obtain ⟨t0_2, -, ta0_2, ta1_2, ta2_2, ta3_2, ta4_2, ta5_2, ta6_2, ta7_2, -, -⟩ := id tv1
  have fm_2 : Fm σ σ1 m A := (Fm.refl).trans fv1
  have tw_2 : IsTw g σ1 m A (va_up iv 17 (nI 0)) wd (va_up ar 1 (ar 0)) rb := ⟨t0_2, tb0, ta0_2, ta1_2, ta2_2, ta3_2, ta4_2, ta5_2, ta6_2, ta7_2, tbb, tii⟩
  refine lv_aload_n F.x F.cd dX3_pour_4 rfl (lv_at hl 0 rfl) ?_
  refine lv_aload_n F.x F.cd dX3_pour_5 rfl (lv_at hl 0 rfl) ?_
  refine lv_iload_n F.x F.cd dX3_pour_6 rfl (lv_at hl 1 rfl) ?_
  refine lv_iload_n F.x F.cd dX3_pour_7 rfl (lv_at hl 2 rfl) ?_
  refine lv_iload_n F.x F.cd dX3_pour_8 rfl (lv_at hl 3 rfl) ?_
  refine s_callV (As := [.int a, .int x, .int s]) (rest := [.ref m]) (C := RX3) (T := TX3) (N := 18) (n := 3) F hW (k_X3_pours g l σ1 m A _ _ _ _ a x s tw_2 hI ) (t0_2) rfl q2382 q2384 qs40 q79 q2385 rfl (by decide +kernel) rfl ⟨⟨Nat.le_of_ble_eq_true rfl, Nat.le_of_ble_eq_true rfl⟩, ⟨(Nat.le_of_ble_eq_true rfl), (Nat.le_of_ble_eq_true rfl)⟩⟩ (Nat.le_of_ble_eq_true rfl) hl.1 rfl dX3_pour_9 cX_no (fun r3 σ3 H locs hp3 hW => ?_)
  obtain ⟨fv3, hp3⟩ := hp3; rcases hp3 with hp3 | hp3
  · obtain ⟨z3, w3, hR3, rfl, tv3⟩ := hp3
    have hR3 : pourR (ar 0) a x s = .ok (z3, w3) := hR3
    refine W.eq (g2 := F0 m_ 12 ls (.int (nI 0) :: .ref m :: [])) rfl ?_
    obtain ⟨t0_4, -, ta0_4, ta1_4, ta2_4, ta3_4, ta4_4, ta5_4, ta6_4, ta7_4, -, -⟩ := id tv3
    have fm_4 : Fm σ σ3 m A := (fm_2).trans fv3
    have tw_4 : IsTw g σ3 m A (va_up (va_up iv 16 z3) 17 (nI 0)) wd (va_up (va_up ar 0 w3) 1 (ar 0)) rb := ⟨t0_4, tb0, ta0_4, ta1_4, ta2_4, ta3_4, ta4_4, ta5_4, ta6_4, ta7_4, tbb, tii⟩
    refine s_callV (As := [.int (nI 0)]) (rest := []) (C := RX3) (T := TX3) (N := 18) (n := 1) F hW (k_X3_ends g l σ3 m A _ _ _ _ 0 u tw_4 (by omega) hu hu8) (t0_4) rfl q2358 q2360 qs36 q79 q2361 rfl (by decide +kernel) rfl ⟨⟨Nat.le_of_ble_eq_true rfl, Nat.le_of_ble_eq_true rfl⟩, ⟨(Nat.le_of_ble_eq_true rfl), (Nat.le_of_ble_eq_true rfl)⟩⟩ (Nat.le_of_ble_eq_true rfl) hl.1 rfl dX3_pour_12 cX_no (fun r5 σ5 H locs hp5 hW => ?_)
    obtain ⟨rfl, tv5, fv5⟩ := hp5.2 rfl
    refine W.eq (g2 := F0 m_ 15 ls (.int z3 :: [])) rfl ?_
    obtain ⟨t0_6, -, ta0_6, ta1_6, ta2_6, ta3_6, ta4_6, ta5_6, ta6_6, ta7_6, -, -⟩ := id tv5
    have fm_6 : Fm σ σ5 m A := (fm_4).trans fv5
    have tw_6 : IsTw g σ5 m A (va_up (va_up (va_up iv 3 (nI (min u 7 + 1))) 16 z3) 17 (nI 0)) wd (va_up (va_up (va_up ar 0 w3) 1 (ar 0)) 2 (cpT (ar 0) (if u = 8 then shT (ar 2) 798 else (ar 2)) (114 * min u 7) 114)) rb := ⟨t0_6, tb0, ta0_6, ta1_6, ta2_6, ta3_6, ta4_6, ta5_6, ta6_6, ta7_6, tbb, tii⟩
    subst hQ
    exact s_reti (v := z3) F hW rfl (⟨fm_6, Or.inl ⟨_, _, (rfl).trans hR3, rfl, tw_6⟩⟩) ⟨(Nat.le_of_ble_eq_true rfl), (Nat.le_of_ble_eq_true rfl)⟩ dX3_pour_15
  · obtain ⟨tx3, hR3, rfl, tv3⟩ := hp3
    have hR3 : pourR (ar 0) a x s = .error tx3 := hR3
    refine W.eq (g2 := F0 m_ 12 ls (.int (nI (en3 tx3)) :: .ref m :: [])) rfl ?_
    obtain ⟨t0_7, -, ta0_7, ta1_7, ta2_7, ta3_7, ta4_7, ta5_7, ta6_7, ta7_7, -, -⟩ := id tv3
    have fm_7 : Fm σ σ3 m A := (fm_2).trans fv3
    have tw_7 : IsTw g σ3 m A (va_up iv 17 (nI 0)) wd (va_up ar 1 (ar 0)) rb := ⟨t0_7, tb0, ta0_7, ta1_7, ta2_7, ta3_7, ta4_7, ta5_7, ta6_7, ta7_7, tbb, tii⟩
    have hbd3 := en3_bd tx3
    refine s_callV (As := [.int (nI (en3 tx3))]) (rest := []) (C := RX3) (T := TX3) (N := 18) (n := 1) F hW (k_X3_ends g l σ3 m A _ _ _ _ (en3 tx3) u tw_7 (by omega) hu hu8) (t0_7) rfl q2358 q2360 qs36 q79 q2361 rfl (by decide +kernel) rfl ⟨⟨Nat.le_of_ble_eq_true rfl, Nat.le_of_ble_eq_true rfl⟩, ⟨(Nat.le_of_ble_eq_true rfl), (Nat.le_of_ble_eq_true rfl)⟩⟩ (Nat.le_of_ble_eq_true rfl) hl.1 rfl dX3_pour_12 cX_no (fun r8 σ8 H locs hp8 hW => ?_)
    obtain ⟨rfl, tv8, fv8⟩ := hp8.1 (by omega)
    refine W.eq (g2 := F0 m_ 15 ls (.int (nI 0) :: [])) rfl ?_
    obtain ⟨t0_9, -, ta0_9, ta1_9, ta2_9, ta3_9, ta4_9, ta5_9, ta6_9, ta7_9, -, -⟩ := id tv8
    have fm_9 : Fm σ σ8 m A := (fm_7).trans fv8
    have tw_9 : IsTw g σ8 m A (va_up iv 17 (nI (en3 tx3))) wd (va_up ar 1 (ar 0)) rb := ⟨t0_9, tb0, ta0_9, ta1_9, ta2_9, ta3_9, ta4_9, ta5_9, ta6_9, ta7_9, tbb, tii⟩
    subst hQ
    exact s_reti (v := (nI 0)) F hW rfl (⟨fm_9, Or.inr ⟨_, (rfl).trans hR3, rfl, tw_9⟩⟩) ⟨(Nat.le_of_ble_eq_true rfl), (Nat.le_of_ble_eq_true rfl)⟩ dX3_pour_15
set_option maxHeartbeats 4000000 in
theorem k_X3_draw (g : Gh) (l : Launch) (σ : Sto) (m : Nat) (A : Nat → Nat) (iv : Nat → Int32) (wd : Nat) (ar : Nat → Nat → Nat) (rb : Nat → Bool) (a x : Int32) (u : Nat) (hw : IsTw g σ m A iv wd ar rb) (hI : Inv (ar 0)) (hu : iv 3 = nI u) (hu8 : u ≤ 8) : Ct g l yX3_draw cX3_draw 3 (some .int) ({ frames := 3, cells := 0, slots := 0, locals := 66 } : Room) [.ref m, .int a, .int x] σ (fun r σ' => TP g σ m A iv wd ar rb u (drawR (ar 0) a x) en3 r σ') (nox) := by
  refine Ct.body (by decide) (Nat.le_of_ble_eq_true rfl) ?_
  intro p_ e_ s_ m_ args_ below_ meth_ c_ ls H locs Q F hW hl hQ
  have hl : lv_has ls 3 [(0, .ref m), (1, .int a), (2, .int x)] := hl
  obtain ⟨t0, tb0, ta0, ta1, ta2, ta3, ta4, ta5, ta6, ta7, tbb, tii⟩ := id hw
  refine lv_aload_n F.x F.cd dX3_draw_0 rfl (lv_at hl 0 rfl) ?_
  refine s_callV (As := []) (rest := []) (C := RX3) (T := TX3) (N := 18) (n := 0) F hW (k_X3_tries g l σ m A _ _ _ _  hw ) (t0) rfl q2343 q2345 qs33 q79 q2346 rfl (by decide +kernel) rfl ⟨⟨Nat.le_of_ble_eq_true rfl, Nat.le_of_ble_eq_true rfl⟩, ⟨(Nat.le_of_ble_eq_true rfl), (Nat.le_of_ble_eq_true rfl)⟩⟩ (Nat.le_of_ble_eq_true rfl) hl.1 rfl dX3_draw_1 cX_no (fun r1 σ1 H locs hp1 hW => ?_)
  obtain ⟨rfl, tv1, fv1⟩ := hp1
  refine W.eq (g2 := F0 m_ 4 ls ([])) rfl ?_
  obtain ⟨t0_2, -, ta0_2, ta1_2, ta2_2, ta3_2, ta4_2, ta5_2, ta6_2, ta7_2, -, -⟩ := id tv1
  have fm_2 : Fm σ σ1 m A := (Fm.refl).trans fv1
  have tw_2 : IsTw g σ1 m A (va_up iv 17 (nI 0)) wd (va_up ar 1 (ar 0)) rb := ⟨t0_2, tb0, ta0_2, ta1_2, ta2_2, ta3_2, ta4_2, ta5_2, ta6_2, ta7_2, tbb, tii⟩
  refine lv_aload_n F.x F.cd dX3_draw_4 rfl (lv_at hl 0 rfl) ?_
  refine lv_aload_n F.x F.cd dX3_draw_5 rfl (lv_at hl 0 rfl) ?_
  refine lv_iload_n F.x F.cd dX3_draw_6 rfl (lv_at hl 1 rfl) ?_
  refine lv_iload_n F.x F.cd dX3_draw_7 rfl (lv_at hl 2 rfl) ?_
  refine s_callV (As := [.int a, .int x]) (rest := [.ref m]) (C := RX3) (T := TX3) (N := 18) (n := 2) F hW (k_X3_draws g l σ1 m A _ _ _ _ a x tw_2 hI ) (t0_2) rfl q2390 q2392 qs41 q79 q2393 rfl (by decide +kernel) rfl ⟨⟨Nat.le_of_ble_eq_true rfl, Nat.le_of_ble_eq_true rfl⟩, ⟨(Nat.le_of_ble_eq_true rfl), (Nat.le_of_ble_eq_true rfl)⟩⟩ (Nat.le_of_ble_eq_true rfl) hl.1 rfl dX3_draw_8 cX_no (fun r3 σ3 H locs hp3 hW => ?_)
  obtain ⟨fv3, hp3⟩ := hp3; rcases hp3 with hp3 | hp3
  · obtain ⟨z3, w3, hR3, rfl, tv3⟩ := hp3
    have hR3 : drawR (ar 0) a x = .ok (z3, w3) := hR3
    refine W.eq (g2 := F0 m_ 11 ls (.int (nI 0) :: .ref m :: [])) rfl ?_
    obtain ⟨t0_4, -, ta0_4, ta1_4, ta2_4, ta3_4, ta4_4, ta5_4, ta6_4, ta7_4, -, -⟩ := id tv3
    have fm_4 : Fm σ σ3 m A := (fm_2).trans fv3
    have tw_4 : IsTw g σ3 m A (va_up (va_up iv 16 z3) 17 (nI 0)) wd (va_up (va_up ar 0 w3) 1 (ar 0)) rb := ⟨t0_4, tb0, ta0_4, ta1_4, ta2_4, ta3_4, ta4_4, ta5_4, ta6_4, ta7_4, tbb, tii⟩
    refine s_callV (As := [.int (nI 0)]) (rest := []) (C := RX3) (T := TX3) (N := 18) (n := 1) F hW (k_X3_ends g l σ3 m A _ _ _ _ 0 u tw_4 (by omega) hu hu8) (t0_4) rfl q2358 q2360 qs36 q79 q2361 rfl (by decide +kernel) rfl ⟨⟨Nat.le_of_ble_eq_true rfl, Nat.le_of_ble_eq_true rfl⟩, ⟨(Nat.le_of_ble_eq_true rfl), (Nat.le_of_ble_eq_true rfl)⟩⟩ (Nat.le_of_ble_eq_true rfl) hl.1 rfl dX3_draw_11 cX_no (fun r5 σ5 H locs hp5 hW => ?_)
    obtain ⟨rfl, tv5, fv5⟩ := hp5.2 rfl
    refine W.eq (g2 := F0 m_ 14 ls (.int z3 :: [])) rfl ?_
    obtain ⟨t0_6, -, ta0_6, ta1_6, ta2_6, ta3_6, ta4_6, ta5_6, ta6_6, ta7_6, -, -⟩ := id tv5
    have fm_6 : Fm σ σ5 m A := (fm_4).trans fv5
    have tw_6 : IsTw g σ5 m A (va_up (va_up (va_up iv 3 (nI (min u 7 + 1))) 16 z3) 17 (nI 0)) wd (va_up (va_up (va_up ar 0 w3) 1 (ar 0)) 2 (cpT (ar 0) (if u = 8 then shT (ar 2) 798 else (ar 2)) (114 * min u 7) 114)) rb := ⟨t0_6, tb0, ta0_6, ta1_6, ta2_6, ta3_6, ta4_6, ta5_6, ta6_6, ta7_6, tbb, tii⟩
    subst hQ
    exact s_reti (v := z3) F hW rfl (⟨fm_6, Or.inl ⟨_, _, (rfl).trans hR3, rfl, tw_6⟩⟩) ⟨(Nat.le_of_ble_eq_true rfl), (Nat.le_of_ble_eq_true rfl)⟩ dX3_draw_14
  · obtain ⟨tx3, hR3, rfl, tv3⟩ := hp3
    have hR3 : drawR (ar 0) a x = .error tx3 := hR3
    refine W.eq (g2 := F0 m_ 11 ls (.int (nI (en3 tx3)) :: .ref m :: [])) rfl ?_
    obtain ⟨t0_7, -, ta0_7, ta1_7, ta2_7, ta3_7, ta4_7, ta5_7, ta6_7, ta7_7, -, -⟩ := id tv3
    have fm_7 : Fm σ σ3 m A := (fm_2).trans fv3
    have tw_7 : IsTw g σ3 m A (va_up iv 17 (nI 0)) wd (va_up ar 1 (ar 0)) rb := ⟨t0_7, tb0, ta0_7, ta1_7, ta2_7, ta3_7, ta4_7, ta5_7, ta6_7, ta7_7, tbb, tii⟩
    have hbd3 := en3_bd tx3
    refine s_callV (As := [.int (nI (en3 tx3))]) (rest := []) (C := RX3) (T := TX3) (N := 18) (n := 1) F hW (k_X3_ends g l σ3 m A _ _ _ _ (en3 tx3) u tw_7 (by omega) hu hu8) (t0_7) rfl q2358 q2360 qs36 q79 q2361 rfl (by decide +kernel) rfl ⟨⟨Nat.le_of_ble_eq_true rfl, Nat.le_of_ble_eq_true rfl⟩, ⟨(Nat.le_of_ble_eq_true rfl), (Nat.le_of_ble_eq_true rfl)⟩⟩ (Nat.le_of_ble_eq_true rfl) hl.1 rfl dX3_draw_11 cX_no (fun r8 σ8 H locs hp8 hW => ?_)
    obtain ⟨rfl, tv8, fv8⟩ := hp8.1 (by omega)
    refine W.eq (g2 := F0 m_ 14 ls (.int (nI 0) :: [])) rfl ?_
    obtain ⟨t0_9, -, ta0_9, ta1_9, ta2_9, ta3_9, ta4_9, ta5_9, ta6_9, ta7_9, -, -⟩ := id tv8
    have fm_9 : Fm σ σ8 m A := (fm_7).trans fv8
    have tw_9 : IsTw g σ8 m A (va_up iv 17 (nI (en3 tx3))) wd (va_up ar 1 (ar 0)) rb := ⟨t0_9, tb0, ta0_9, ta1_9, ta2_9, ta3_9, ta4_9, ta5_9, ta6_9, ta7_9, tbb, tii⟩
    subst hQ
    exact s_reti (v := (nI 0)) F hW rfl (⟨fm_9, Or.inr ⟨_, (rfl).trans hR3, rfl, tw_9⟩⟩) ⟨(Nat.le_of_ble_eq_true rfl), (Nat.le_of_ble_eq_true rfl)⟩ dX3_draw_14
set_option maxHeartbeats 4000000 in
theorem k_X3_setValve (g : Gh) (l : Launch) (σ : Sto) (m : Nat) (A : Nat → Nat) (iv : Nat → Int32) (wd : Nat) (ar : Nat → Nat → Nat) (rb : Nat → Bool) (x y : Int32) (u : Nat) (hw : IsTw g σ m A iv wd ar rb) (hI : Inv (ar 0)) (hu : iv 3 = nI u) (hu8 : u ≤ 8) : Ct g l yX3_setValve cX3_setValve 3 (some .int) ({ frames := 3, cells := 0, slots := 0, locals := 68 } : Room) [.ref m, .int x, .int y] σ (fun r σ' => TP g σ m A iv wd ar rb u (valveR (ar 0) x y) en3 r σ') (nox) := by
  refine Ct.body (by decide) (Nat.le_of_ble_eq_true rfl) ?_
  intro p_ e_ s_ m_ args_ below_ meth_ c_ ls H locs Q F hW hl hQ
  have hl : lv_has ls 3 [(0, .ref m), (1, .int x), (2, .int y)] := hl
  obtain ⟨t0, tb0, ta0, ta1, ta2, ta3, ta4, ta5, ta6, ta7, tbb, tii⟩ := id hw
  refine lv_aload_n F.x F.cd dX3_setValve_0 rfl (lv_at hl 0 rfl) ?_
  refine s_callV (As := []) (rest := []) (C := RX3) (T := TX3) (N := 18) (n := 0) F hW (k_X3_tries g l σ m A _ _ _ _  hw ) (t0) rfl q2343 q2345 qs33 q79 q2346 rfl (by decide +kernel) rfl ⟨⟨Nat.le_of_ble_eq_true rfl, Nat.le_of_ble_eq_true rfl⟩, ⟨(Nat.le_of_ble_eq_true rfl), (Nat.le_of_ble_eq_true rfl)⟩⟩ (Nat.le_of_ble_eq_true rfl) hl.1 rfl dX3_setValve_1 cX_no (fun r1 σ1 H locs hp1 hW => ?_)
  obtain ⟨rfl, tv1, fv1⟩ := hp1
  refine W.eq (g2 := F0 m_ 4 ls ([])) rfl ?_
  obtain ⟨t0_2, -, ta0_2, ta1_2, ta2_2, ta3_2, ta4_2, ta5_2, ta6_2, ta7_2, -, -⟩ := id tv1
  have fm_2 : Fm σ σ1 m A := (Fm.refl).trans fv1
  have tw_2 : IsTw g σ1 m A (va_up iv 17 (nI 0)) wd (va_up ar 1 (ar 0)) rb := ⟨t0_2, tb0, ta0_2, ta1_2, ta2_2, ta3_2, ta4_2, ta5_2, ta6_2, ta7_2, tbb, tii⟩
  refine lv_aload_n F.x F.cd dX3_setValve_4 rfl (lv_at hl 0 rfl) ?_
  refine lv_aload_n F.x F.cd dX3_setValve_5 rfl (lv_at hl 0 rfl) ?_
  refine lv_iload_n F.x F.cd dX3_setValve_6 rfl (lv_at hl 1 rfl) ?_
  refine lv_iconst (v := (nI 3)) F.x F.cd dX3_setValve_7 (by decide) ?_
  refine lv_iload_n F.x F.cd dX3_setValve_8 rfl (lv_at hl 2 rfl) ?_
  refine lv_iconst (v := (nI 4)) F.x F.cd dX3_setValve_9 (by decide) ?_
  refine s_callV (As := [.int x, .int (nI 3), .int y, .int (nI 4)]) (rest := [.ref m]) (C := RX3) (T := TX3) (N := 18) (n := 4) F hW (k_X3_sets g l σ1 m A _ _ _ _ x 3 y 4 tw_2 hI (by omega) (by omega)) (t0_2) rfl q2398 q2400 qs42 q79 q2401 rfl (by decide +kernel) rfl ⟨⟨Nat.le_of_ble_eq_true rfl, Nat.le_of_ble_eq_true rfl⟩, ⟨(Nat.le_of_ble_eq_true rfl), (Nat.le_of_ble_eq_true rfl)⟩⟩ (Nat.le_of_ble_eq_true rfl) hl.1 rfl dX3_setValve_10 cX_no (fun r3 σ3 H locs hp3 hW => ?_)
  obtain ⟨fv3, hp3⟩ := hp3; rcases hp3 with hp3 | hp3
  · obtain ⟨z3, w3, hR3, rfl, tv3⟩ := hp3
    have hR3 : setsR (ar 0) x 3 y 4 = .ok (z3, w3) := hR3
    refine W.eq (g2 := F0 m_ 13 ls (.int (nI 0) :: .ref m :: [])) rfl ?_
    obtain ⟨t0_4, -, ta0_4, ta1_4, ta2_4, ta3_4, ta4_4, ta5_4, ta6_4, ta7_4, -, -⟩ := id tv3
    have fm_4 : Fm σ σ3 m A := (fm_2).trans fv3
    have tw_4 : IsTw g σ3 m A (va_up (va_up iv 16 z3) 17 (nI 0)) wd (va_up (va_up ar 0 w3) 1 (ar 0)) rb := ⟨t0_4, tb0, ta0_4, ta1_4, ta2_4, ta3_4, ta4_4, ta5_4, ta6_4, ta7_4, tbb, tii⟩
    refine s_callV (As := [.int (nI 0)]) (rest := []) (C := RX3) (T := TX3) (N := 18) (n := 1) F hW (k_X3_ends g l σ3 m A _ _ _ _ 0 u tw_4 (by omega) hu hu8) (t0_4) rfl q2358 q2360 qs36 q79 q2361 rfl (by decide +kernel) rfl ⟨⟨Nat.le_of_ble_eq_true rfl, Nat.le_of_ble_eq_true rfl⟩, ⟨(Nat.le_of_ble_eq_true rfl), (Nat.le_of_ble_eq_true rfl)⟩⟩ (Nat.le_of_ble_eq_true rfl) hl.1 rfl dX3_setValve_13 cX_no (fun r5 σ5 H locs hp5 hW => ?_)
    obtain ⟨rfl, tv5, fv5⟩ := hp5.2 rfl
    refine W.eq (g2 := F0 m_ 16 ls (.int z3 :: [])) rfl ?_
    obtain ⟨t0_6, -, ta0_6, ta1_6, ta2_6, ta3_6, ta4_6, ta5_6, ta6_6, ta7_6, -, -⟩ := id tv5
    have fm_6 : Fm σ σ5 m A := (fm_4).trans fv5
    have tw_6 : IsTw g σ5 m A (va_up (va_up (va_up iv 3 (nI (min u 7 + 1))) 16 z3) 17 (nI 0)) wd (va_up (va_up (va_up ar 0 w3) 1 (ar 0)) 2 (cpT (ar 0) (if u = 8 then shT (ar 2) 798 else (ar 2)) (114 * min u 7) 114)) rb := ⟨t0_6, tb0, ta0_6, ta1_6, ta2_6, ta3_6, ta4_6, ta5_6, ta6_6, ta7_6, tbb, tii⟩
    subst hQ
    exact s_reti (v := z3) F hW rfl (⟨fm_6, Or.inl ⟨_, _, (setsR_v.symm).trans hR3, rfl, tw_6⟩⟩) ⟨(Nat.le_of_ble_eq_true rfl), (Nat.le_of_ble_eq_true rfl)⟩ dX3_setValve_16
  · obtain ⟨tx3, hR3, rfl, tv3⟩ := hp3
    have hR3 : setsR (ar 0) x 3 y 4 = .error tx3 := hR3
    refine W.eq (g2 := F0 m_ 13 ls (.int (nI (en3 tx3)) :: .ref m :: [])) rfl ?_
    obtain ⟨t0_7, -, ta0_7, ta1_7, ta2_7, ta3_7, ta4_7, ta5_7, ta6_7, ta7_7, -, -⟩ := id tv3
    have fm_7 : Fm σ σ3 m A := (fm_2).trans fv3
    have tw_7 : IsTw g σ3 m A (va_up iv 17 (nI 0)) wd (va_up ar 1 (ar 0)) rb := ⟨t0_7, tb0, ta0_7, ta1_7, ta2_7, ta3_7, ta4_7, ta5_7, ta6_7, ta7_7, tbb, tii⟩
    have hbd3 := en3_bd tx3
    refine s_callV (As := [.int (nI (en3 tx3))]) (rest := []) (C := RX3) (T := TX3) (N := 18) (n := 1) F hW (k_X3_ends g l σ3 m A _ _ _ _ (en3 tx3) u tw_7 (by omega) hu hu8) (t0_7) rfl q2358 q2360 qs36 q79 q2361 rfl (by decide +kernel) rfl ⟨⟨Nat.le_of_ble_eq_true rfl, Nat.le_of_ble_eq_true rfl⟩, ⟨(Nat.le_of_ble_eq_true rfl), (Nat.le_of_ble_eq_true rfl)⟩⟩ (Nat.le_of_ble_eq_true rfl) hl.1 rfl dX3_setValve_13 cX_no (fun r8 σ8 H locs hp8 hW => ?_)
    obtain ⟨rfl, tv8, fv8⟩ := hp8.1 (by omega)
    refine W.eq (g2 := F0 m_ 16 ls (.int (nI 0) :: [])) rfl ?_
    obtain ⟨t0_9, -, ta0_9, ta1_9, ta2_9, ta3_9, ta4_9, ta5_9, ta6_9, ta7_9, -, -⟩ := id tv8
    have fm_9 : Fm σ σ8 m A := (fm_7).trans fv8
    have tw_9 : IsTw g σ8 m A (va_up iv 17 (nI (en3 tx3))) wd (va_up ar 1 (ar 0)) rb := ⟨t0_9, tb0, ta0_9, ta1_9, ta2_9, ta3_9, ta4_9, ta5_9, ta6_9, ta7_9, tbb, tii⟩
    subst hQ
    exact s_reti (v := (nI 0)) F hW rfl (⟨fm_9, Or.inr ⟨_, (setsR_v.symm).trans hR3, rfl, tw_9⟩⟩) ⟨(Nat.le_of_ble_eq_true rfl), (Nat.le_of_ble_eq_true rfl)⟩ dX3_setValve_16
set_option maxHeartbeats 4000000 in
theorem k_X3_setLeak (g : Gh) (l : Launch) (σ : Sto) (m : Nat) (A : Nat → Nat) (iv : Nat → Int32) (wd : Nat) (ar : Nat → Nat → Nat) (rb : Nat → Bool) (x y : Int32) (u : Nat) (hw : IsTw g σ m A iv wd ar rb) (hI : Inv (ar 0)) (hu : iv 3 = nI u) (hu8 : u ≤ 8) : Ct g l yX3_setLeak cX3_setLeak 3 (some .int) ({ frames := 3, cells := 0, slots := 0, locals := 68 } : Room) [.ref m, .int x, .int y] σ (fun r σ' => TP g σ m A iv wd ar rb u (leakR (ar 0) x y) en3 r σ') (nox) := by
  refine Ct.body (by decide) (Nat.le_of_ble_eq_true rfl) ?_
  intro p_ e_ s_ m_ args_ below_ meth_ c_ ls H locs Q F hW hl hQ
  have hl : lv_has ls 3 [(0, .ref m), (1, .int x), (2, .int y)] := hl
  obtain ⟨t0, tb0, ta0, ta1, ta2, ta3, ta4, ta5, ta6, ta7, tbb, tii⟩ := id hw
  refine lv_aload_n F.x F.cd dX3_setLeak_0 rfl (lv_at hl 0 rfl) ?_
  refine s_callV (As := []) (rest := []) (C := RX3) (T := TX3) (N := 18) (n := 0) F hW (k_X3_tries g l σ m A _ _ _ _  hw ) (t0) rfl q2343 q2345 qs33 q79 q2346 rfl (by decide +kernel) rfl ⟨⟨Nat.le_of_ble_eq_true rfl, Nat.le_of_ble_eq_true rfl⟩, ⟨(Nat.le_of_ble_eq_true rfl), (Nat.le_of_ble_eq_true rfl)⟩⟩ (Nat.le_of_ble_eq_true rfl) hl.1 rfl dX3_setLeak_1 cX_no (fun r1 σ1 H locs hp1 hW => ?_)
  obtain ⟨rfl, tv1, fv1⟩ := hp1
  refine W.eq (g2 := F0 m_ 4 ls ([])) rfl ?_
  obtain ⟨t0_2, -, ta0_2, ta1_2, ta2_2, ta3_2, ta4_2, ta5_2, ta6_2, ta7_2, -, -⟩ := id tv1
  have fm_2 : Fm σ σ1 m A := (Fm.refl).trans fv1
  have tw_2 : IsTw g σ1 m A (va_up iv 17 (nI 0)) wd (va_up ar 1 (ar 0)) rb := ⟨t0_2, tb0, ta0_2, ta1_2, ta2_2, ta3_2, ta4_2, ta5_2, ta6_2, ta7_2, tbb, tii⟩
  refine lv_aload_n F.x F.cd dX3_setLeak_4 rfl (lv_at hl 0 rfl) ?_
  refine lv_aload_n F.x F.cd dX3_setLeak_5 rfl (lv_at hl 0 rfl) ?_
  refine lv_iload_n F.x F.cd dX3_setLeak_6 rfl (lv_at hl 1 rfl) ?_
  refine lv_iconst (v := (nI 4)) F.x F.cd dX3_setLeak_7 (by decide) ?_
  refine lv_iload_n F.x F.cd dX3_setLeak_8 rfl (lv_at hl 2 rfl) ?_
  refine lv_bipush (v := (nI 9)) F.x F.cd dX3_setLeak_9 (by decide) ?_
  refine s_callV (As := [.int x, .int (nI 4), .int y, .int (nI 9)]) (rest := [.ref m]) (C := RX3) (T := TX3) (N := 18) (n := 4) F hW (k_X3_sets g l σ1 m A _ _ _ _ x 4 y 9 tw_2 hI (by omega) (by omega)) (t0_2) rfl q2398 q2400 qs42 q79 q2401 rfl (by decide +kernel) rfl ⟨⟨Nat.le_of_ble_eq_true rfl, Nat.le_of_ble_eq_true rfl⟩, ⟨(Nat.le_of_ble_eq_true rfl), (Nat.le_of_ble_eq_true rfl)⟩⟩ (Nat.le_of_ble_eq_true rfl) hl.1 rfl dX3_setLeak_11 cX_no (fun r3 σ3 H locs hp3 hW => ?_)
  obtain ⟨fv3, hp3⟩ := hp3; rcases hp3 with hp3 | hp3
  · obtain ⟨z3, w3, hR3, rfl, tv3⟩ := hp3
    have hR3 : setsR (ar 0) x 4 y 9 = .ok (z3, w3) := hR3
    refine W.eq (g2 := F0 m_ 14 ls (.int (nI 0) :: .ref m :: [])) rfl ?_
    obtain ⟨t0_4, -, ta0_4, ta1_4, ta2_4, ta3_4, ta4_4, ta5_4, ta6_4, ta7_4, -, -⟩ := id tv3
    have fm_4 : Fm σ σ3 m A := (fm_2).trans fv3
    have tw_4 : IsTw g σ3 m A (va_up (va_up iv 16 z3) 17 (nI 0)) wd (va_up (va_up ar 0 w3) 1 (ar 0)) rb := ⟨t0_4, tb0, ta0_4, ta1_4, ta2_4, ta3_4, ta4_4, ta5_4, ta6_4, ta7_4, tbb, tii⟩
    refine s_callV (As := [.int (nI 0)]) (rest := []) (C := RX3) (T := TX3) (N := 18) (n := 1) F hW (k_X3_ends g l σ3 m A _ _ _ _ 0 u tw_4 (by omega) hu hu8) (t0_4) rfl q2358 q2360 qs36 q79 q2361 rfl (by decide +kernel) rfl ⟨⟨Nat.le_of_ble_eq_true rfl, Nat.le_of_ble_eq_true rfl⟩, ⟨(Nat.le_of_ble_eq_true rfl), (Nat.le_of_ble_eq_true rfl)⟩⟩ (Nat.le_of_ble_eq_true rfl) hl.1 rfl dX3_setLeak_14 cX_no (fun r5 σ5 H locs hp5 hW => ?_)
    obtain ⟨rfl, tv5, fv5⟩ := hp5.2 rfl
    refine W.eq (g2 := F0 m_ 17 ls (.int z3 :: [])) rfl ?_
    obtain ⟨t0_6, -, ta0_6, ta1_6, ta2_6, ta3_6, ta4_6, ta5_6, ta6_6, ta7_6, -, -⟩ := id tv5
    have fm_6 : Fm σ σ5 m A := (fm_4).trans fv5
    have tw_6 : IsTw g σ5 m A (va_up (va_up (va_up iv 3 (nI (min u 7 + 1))) 16 z3) 17 (nI 0)) wd (va_up (va_up (va_up ar 0 w3) 1 (ar 0)) 2 (cpT (ar 0) (if u = 8 then shT (ar 2) 798 else (ar 2)) (114 * min u 7) 114)) rb := ⟨t0_6, tb0, ta0_6, ta1_6, ta2_6, ta3_6, ta4_6, ta5_6, ta6_6, ta7_6, tbb, tii⟩
    subst hQ
    exact s_reti (v := z3) F hW rfl (⟨fm_6, Or.inl ⟨_, _, (setsR_l.symm).trans hR3, rfl, tw_6⟩⟩) ⟨(Nat.le_of_ble_eq_true rfl), (Nat.le_of_ble_eq_true rfl)⟩ dX3_setLeak_17
  · obtain ⟨tx3, hR3, rfl, tv3⟩ := hp3
    have hR3 : setsR (ar 0) x 4 y 9 = .error tx3 := hR3
    refine W.eq (g2 := F0 m_ 14 ls (.int (nI (en3 tx3)) :: .ref m :: [])) rfl ?_
    obtain ⟨t0_7, -, ta0_7, ta1_7, ta2_7, ta3_7, ta4_7, ta5_7, ta6_7, ta7_7, -, -⟩ := id tv3
    have fm_7 : Fm σ σ3 m A := (fm_2).trans fv3
    have tw_7 : IsTw g σ3 m A (va_up iv 17 (nI 0)) wd (va_up ar 1 (ar 0)) rb := ⟨t0_7, tb0, ta0_7, ta1_7, ta2_7, ta3_7, ta4_7, ta5_7, ta6_7, ta7_7, tbb, tii⟩
    have hbd3 := en3_bd tx3
    refine s_callV (As := [.int (nI (en3 tx3))]) (rest := []) (C := RX3) (T := TX3) (N := 18) (n := 1) F hW (k_X3_ends g l σ3 m A _ _ _ _ (en3 tx3) u tw_7 (by omega) hu hu8) (t0_7) rfl q2358 q2360 qs36 q79 q2361 rfl (by decide +kernel) rfl ⟨⟨Nat.le_of_ble_eq_true rfl, Nat.le_of_ble_eq_true rfl⟩, ⟨(Nat.le_of_ble_eq_true rfl), (Nat.le_of_ble_eq_true rfl)⟩⟩ (Nat.le_of_ble_eq_true rfl) hl.1 rfl dX3_setLeak_14 cX_no (fun r8 σ8 H locs hp8 hW => ?_)
    obtain ⟨rfl, tv8, fv8⟩ := hp8.1 (by omega)
    refine W.eq (g2 := F0 m_ 17 ls (.int (nI 0) :: [])) rfl ?_
    obtain ⟨t0_9, -, ta0_9, ta1_9, ta2_9, ta3_9, ta4_9, ta5_9, ta6_9, ta7_9, -, -⟩ := id tv8
    have fm_9 : Fm σ σ8 m A := (fm_7).trans fv8
    have tw_9 : IsTw g σ8 m A (va_up iv 17 (nI (en3 tx3))) wd (va_up ar 1 (ar 0)) rb := ⟨t0_9, tb0, ta0_9, ta1_9, ta2_9, ta3_9, ta4_9, ta5_9, ta6_9, ta7_9, tbb, tii⟩
    subst hQ
    exact s_reti (v := (nI 0)) F hW rfl (⟨fm_9, Or.inr ⟨_, (setsR_l.symm).trans hR3, rfl, tw_9⟩⟩) ⟨(Nat.le_of_ble_eq_true rfl), (Nat.le_of_ble_eq_true rfl)⟩ dX3_setLeak_17
set_option maxHeartbeats 4000000 in
theorem k_X3_cleanFilter (g : Gh) (l : Launch) (σ : Sto) (m : Nat) (A : Nat → Nat) (iv : Nat → Int32) (wd : Nat) (ar : Nat → Nat → Nat) (rb : Nat → Bool) (x : Int32) (u : Nat) (hw : IsTw g σ m A iv wd ar rb) (hI : Inv (ar 0)) (hu : iv 3 = nI u) (hu8 : u ≤ 8) : Ct g l yX3_cleanFilter cX3_cleanFilter 2 (some .int) ({ frames := 3, cells := 0, slots := 0, locals := 68 } : Room) [.ref m, .int x] σ (fun r σ' => TP g σ m A iv wd ar rb u (cleanR (ar 0) x) en3 r σ') (nox) := by
  refine Ct.body (by decide) (Nat.le_of_ble_eq_true rfl) ?_
  intro p_ e_ s_ m_ args_ below_ meth_ c_ ls H locs Q F hW hl hQ
  have hl : lv_has ls 2 [(0, .ref m), (1, .int x)] := hl
  obtain ⟨t0, tb0, ta0, ta1, ta2, ta3, ta4, ta5, ta6, ta7, tbb, tii⟩ := id hw
  refine lv_aload_n F.x F.cd dX3_cleanFilter_0 rfl (lv_at hl 0 rfl) ?_
  refine s_callV (As := []) (rest := []) (C := RX3) (T := TX3) (N := 18) (n := 0) F hW (k_X3_tries g l σ m A _ _ _ _  hw ) (t0) rfl q2343 q2345 qs33 q79 q2346 rfl (by decide +kernel) rfl ⟨⟨Nat.le_of_ble_eq_true rfl, Nat.le_of_ble_eq_true rfl⟩, ⟨(Nat.le_of_ble_eq_true rfl), (Nat.le_of_ble_eq_true rfl)⟩⟩ (Nat.le_of_ble_eq_true rfl) hl.1 rfl dX3_cleanFilter_1 cX_no (fun r1 σ1 H locs hp1 hW => ?_)
  obtain ⟨rfl, tv1, fv1⟩ := hp1
  refine W.eq (g2 := F0 m_ 4 ls ([])) rfl ?_
  obtain ⟨t0_2, -, ta0_2, ta1_2, ta2_2, ta3_2, ta4_2, ta5_2, ta6_2, ta7_2, -, -⟩ := id tv1
  have fm_2 : Fm σ σ1 m A := (Fm.refl).trans fv1
  have tw_2 : IsTw g σ1 m A (va_up iv 17 (nI 0)) wd (va_up ar 1 (ar 0)) rb := ⟨t0_2, tb0, ta0_2, ta1_2, ta2_2, ta3_2, ta4_2, ta5_2, ta6_2, ta7_2, tbb, tii⟩
  refine lv_aload_n F.x F.cd dX3_cleanFilter_4 rfl (lv_at hl 0 rfl) ?_
  refine lv_aload_n F.x F.cd dX3_cleanFilter_5 rfl (lv_at hl 0 rfl) ?_
  refine lv_iload_n F.x F.cd dX3_cleanFilter_6 rfl (lv_at hl 1 rfl) ?_
  refine lv_iconst (v := (nI 5)) F.x F.cd dX3_cleanFilter_7 (by decide) ?_
  refine lv_iconst (v := (nI 0)) F.x F.cd dX3_cleanFilter_8 (by decide) ?_
  refine lv_iconst (v := (nI 0)) F.x F.cd dX3_cleanFilter_9 (by decide) ?_
  refine s_callV (As := [.int x, .int (nI 5), .int (nI 0), .int (nI 0)]) (rest := [.ref m]) (C := RX3) (T := TX3) (N := 18) (n := 4) F hW (k_X3_sets g l σ1 m A _ _ _ _ x 5 (nI 0) 0 tw_2 hI (by omega) (by omega)) (t0_2) rfl q2398 q2400 qs42 q79 q2401 rfl (by decide +kernel) rfl ⟨⟨Nat.le_of_ble_eq_true rfl, Nat.le_of_ble_eq_true rfl⟩, ⟨(Nat.le_of_ble_eq_true rfl), (Nat.le_of_ble_eq_true rfl)⟩⟩ (Nat.le_of_ble_eq_true rfl) hl.1 rfl dX3_cleanFilter_10 cX_no (fun r3 σ3 H locs hp3 hW => ?_)
  obtain ⟨fv3, hp3⟩ := hp3; rcases hp3 with hp3 | hp3
  · obtain ⟨z3, w3, hR3, rfl, tv3⟩ := hp3
    have hR3 : setsR (ar 0) x 5 (nI 0) 0 = .ok (z3, w3) := hR3
    refine W.eq (g2 := F0 m_ 13 ls (.int (nI 0) :: .ref m :: [])) rfl ?_
    obtain ⟨t0_4, -, ta0_4, ta1_4, ta2_4, ta3_4, ta4_4, ta5_4, ta6_4, ta7_4, -, -⟩ := id tv3
    have fm_4 : Fm σ σ3 m A := (fm_2).trans fv3
    have tw_4 : IsTw g σ3 m A (va_up (va_up iv 16 z3) 17 (nI 0)) wd (va_up (va_up ar 0 w3) 1 (ar 0)) rb := ⟨t0_4, tb0, ta0_4, ta1_4, ta2_4, ta3_4, ta4_4, ta5_4, ta6_4, ta7_4, tbb, tii⟩
    refine s_callV (As := [.int (nI 0)]) (rest := []) (C := RX3) (T := TX3) (N := 18) (n := 1) F hW (k_X3_ends g l σ3 m A _ _ _ _ 0 u tw_4 (by omega) hu hu8) (t0_4) rfl q2358 q2360 qs36 q79 q2361 rfl (by decide +kernel) rfl ⟨⟨Nat.le_of_ble_eq_true rfl, Nat.le_of_ble_eq_true rfl⟩, ⟨(Nat.le_of_ble_eq_true rfl), (Nat.le_of_ble_eq_true rfl)⟩⟩ (Nat.le_of_ble_eq_true rfl) hl.1 rfl dX3_cleanFilter_13 cX_no (fun r5 σ5 H locs hp5 hW => ?_)
    obtain ⟨rfl, tv5, fv5⟩ := hp5.2 rfl
    refine W.eq (g2 := F0 m_ 16 ls (.int z3 :: [])) rfl ?_
    obtain ⟨t0_6, -, ta0_6, ta1_6, ta2_6, ta3_6, ta4_6, ta5_6, ta6_6, ta7_6, -, -⟩ := id tv5
    have fm_6 : Fm σ σ5 m A := (fm_4).trans fv5
    have tw_6 : IsTw g σ5 m A (va_up (va_up (va_up iv 3 (nI (min u 7 + 1))) 16 z3) 17 (nI 0)) wd (va_up (va_up (va_up ar 0 w3) 1 (ar 0)) 2 (cpT (ar 0) (if u = 8 then shT (ar 2) 798 else (ar 2)) (114 * min u 7) 114)) rb := ⟨t0_6, tb0, ta0_6, ta1_6, ta2_6, ta3_6, ta4_6, ta5_6, ta6_6, ta7_6, tbb, tii⟩
    subst hQ
    exact s_reti (v := z3) F hW rfl (⟨fm_6, Or.inl ⟨_, _, (setsR_c.symm).trans hR3, rfl, tw_6⟩⟩) ⟨(Nat.le_of_ble_eq_true rfl), (Nat.le_of_ble_eq_true rfl)⟩ dX3_cleanFilter_16
  · obtain ⟨tx3, hR3, rfl, tv3⟩ := hp3
    have hR3 : setsR (ar 0) x 5 (nI 0) 0 = .error tx3 := hR3
    refine W.eq (g2 := F0 m_ 13 ls (.int (nI (en3 tx3)) :: .ref m :: [])) rfl ?_
    obtain ⟨t0_7, -, ta0_7, ta1_7, ta2_7, ta3_7, ta4_7, ta5_7, ta6_7, ta7_7, -, -⟩ := id tv3
    have fm_7 : Fm σ σ3 m A := (fm_2).trans fv3
    have tw_7 : IsTw g σ3 m A (va_up iv 17 (nI 0)) wd (va_up ar 1 (ar 0)) rb := ⟨t0_7, tb0, ta0_7, ta1_7, ta2_7, ta3_7, ta4_7, ta5_7, ta6_7, ta7_7, tbb, tii⟩
    have hbd3 := en3_bd tx3
    refine s_callV (As := [.int (nI (en3 tx3))]) (rest := []) (C := RX3) (T := TX3) (N := 18) (n := 1) F hW (k_X3_ends g l σ3 m A _ _ _ _ (en3 tx3) u tw_7 (by omega) hu hu8) (t0_7) rfl q2358 q2360 qs36 q79 q2361 rfl (by decide +kernel) rfl ⟨⟨Nat.le_of_ble_eq_true rfl, Nat.le_of_ble_eq_true rfl⟩, ⟨(Nat.le_of_ble_eq_true rfl), (Nat.le_of_ble_eq_true rfl)⟩⟩ (Nat.le_of_ble_eq_true rfl) hl.1 rfl dX3_cleanFilter_13 cX_no (fun r8 σ8 H locs hp8 hW => ?_)
    obtain ⟨rfl, tv8, fv8⟩ := hp8.1 (by omega)
    refine W.eq (g2 := F0 m_ 16 ls (.int (nI 0) :: [])) rfl ?_
    obtain ⟨t0_9, -, ta0_9, ta1_9, ta2_9, ta3_9, ta4_9, ta5_9, ta6_9, ta7_9, -, -⟩ := id tv8
    have fm_9 : Fm σ σ8 m A := (fm_7).trans fv8
    have tw_9 : IsTw g σ8 m A (va_up iv 17 (nI (en3 tx3))) wd (va_up ar 1 (ar 0)) rb := ⟨t0_9, tb0, ta0_9, ta1_9, ta2_9, ta3_9, ta4_9, ta5_9, ta6_9, ta7_9, tbb, tii⟩
    subst hQ
    exact s_reti (v := (nI 0)) F hW rfl (⟨fm_9, Or.inr ⟨_, (setsR_c.symm).trans hR3, rfl, tw_9⟩⟩) ⟨(Nat.le_of_ble_eq_true rfl), (Nat.le_of_ble_eq_true rfl)⟩ dX3_cleanFilter_16
set_option maxHeartbeats 4000000 in
theorem k_X3_advance (g : Gh) (l : Launch) (σ : Sto) (m : Nat) (A : Nat → Nat) (iv : Nat → Int32) (wd : Nat) (ar : Nat → Nat → Nat) (rb : Nat → Bool) (x : Int32) (u : Nat) (hw : IsTw g σ m A iv wd ar rb) (hI : Inv (ar 0)) (hu : iv 3 = nI u) (hu8 : u ≤ 8) : Ct g l yX3_advance cX3_advance 2 (some .int) ({ frames := 5, cells := 0, slots := 0, locals := 121 } : Room) [.ref m, .int x] σ (fun r σ' => TP g σ m A iv wd ar rb u (waitR (ar 0) x) en2 r σ') (nox) := by
  refine Ct.body (by decide) (Nat.le_of_ble_eq_true rfl) ?_
  intro p_ e_ s_ m_ args_ below_ meth_ c_ ls H locs Q F hW hl hQ
  have hl : lv_has ls 2 [(0, .ref m), (1, .int x)] := hl
  obtain ⟨t0, tb0, ta0, ta1, ta2, ta3, ta4, ta5, ta6, ta7, tbb, tii⟩ := id hw
  refine lv_aload_n F.x F.cd dX3_advance_0 rfl (lv_at hl 0 rfl) ?_
  refine s_callV (As := []) (rest := []) (C := RX3) (T := TX3) (N := 18) (n := 0) F hW (k_X3_tries g l σ m A _ _ _ _  hw ) (t0) rfl q2343 q2345 qs33 q79 q2346 rfl (by decide +kernel) rfl ⟨⟨Nat.le_of_ble_eq_true rfl, Nat.le_of_ble_eq_true rfl⟩, ⟨(Nat.le_of_ble_eq_true rfl), (Nat.le_of_ble_eq_true rfl)⟩⟩ (Nat.le_of_ble_eq_true rfl) hl.1 rfl dX3_advance_1 cX_no (fun r1 σ1 H locs hp1 hW => ?_)
  obtain ⟨rfl, tv1, fv1⟩ := hp1
  refine W.eq (g2 := F0 m_ 4 ls ([])) rfl ?_
  obtain ⟨t0_2, -, ta0_2, ta1_2, ta2_2, ta3_2, ta4_2, ta5_2, ta6_2, ta7_2, -, -⟩ := id tv1
  have fm_2 : Fm σ σ1 m A := (Fm.refl).trans fv1
  have tw_2 : IsTw g σ1 m A (va_up iv 17 (nI 0)) wd (va_up ar 1 (ar 0)) rb := ⟨t0_2, tb0, ta0_2, ta1_2, ta2_2, ta3_2, ta4_2, ta5_2, ta6_2, ta7_2, tbb, tii⟩
  refine lv_aload_n F.x F.cd dX3_advance_4 rfl (lv_at hl 0 rfl) ?_
  refine lv_aload_n F.x F.cd dX3_advance_5 rfl (lv_at hl 0 rfl) ?_
  refine lv_iload_n F.x F.cd dX3_advance_6 rfl (lv_at hl 1 rfl) ?_
  refine s_callV (As := [.int x]) (rest := [.ref m]) (C := RX3) (T := TX3) (N := 18) (n := 1) F hW (k_X3_passes g l σ1 m A _ _ _ _ x tw_2 hI ) (t0_2) rfl q2422 q2424 qs45 q79 q2425 rfl (by decide +kernel) rfl ⟨⟨Nat.le_of_ble_eq_true rfl, Nat.le_of_ble_eq_true rfl⟩, ⟨(Nat.le_of_ble_eq_true rfl), (Nat.le_of_ble_eq_true rfl)⟩⟩ (Nat.le_of_ble_eq_true rfl) hl.1 rfl dX3_advance_7 cX_no (fun r3 σ3 H locs hp3 hW => ?_)
  obtain ⟨fv3, hp3⟩ := hp3; rcases hp3 with hp3 | hp3
  · obtain ⟨z3, w3, hR3, rfl, tv3⟩ := hp3
    have hR3 : waitR (ar 0) x = .ok (z3, w3) := hR3
    refine W.eq (g2 := F0 m_ 10 ls (.int (nI 0) :: .ref m :: [])) rfl ?_
    obtain ⟨t0_4, -, ta0_4, ta1_4, ta2_4, ta3_4, ta4_4, ta5_4, ta6_4, ta7_4, -, -⟩ := id tv3
    have fm_4 : Fm σ σ3 m A := (fm_2).trans fv3
    have tw_4 : IsTw g σ3 m A (va_up (va_up iv 16 z3) 17 (nI 0)) wd (va_up (va_up ar 0 w3) 1 (ar 0)) rb := ⟨t0_4, tb0, ta0_4, ta1_4, ta2_4, ta3_4, ta4_4, ta5_4, ta6_4, ta7_4, tbb, tii⟩
    refine s_callV (As := [.int (nI 0)]) (rest := []) (C := RX3) (T := TX3) (N := 18) (n := 1) F hW (k_X3_ends g l σ3 m A _ _ _ _ 0 u tw_4 (by omega) hu hu8) (t0_4) rfl q2358 q2360 qs36 q79 q2361 rfl (by decide +kernel) rfl ⟨⟨Nat.le_of_ble_eq_true rfl, Nat.le_of_ble_eq_true rfl⟩, ⟨(Nat.le_of_ble_eq_true rfl), (Nat.le_of_ble_eq_true rfl)⟩⟩ (Nat.le_of_ble_eq_true rfl) hl.1 rfl dX3_advance_10 cX_no (fun r5 σ5 H locs hp5 hW => ?_)
    obtain ⟨rfl, tv5, fv5⟩ := hp5.2 rfl
    refine W.eq (g2 := F0 m_ 13 ls (.int z3 :: [])) rfl ?_
    obtain ⟨t0_6, -, ta0_6, ta1_6, ta2_6, ta3_6, ta4_6, ta5_6, ta6_6, ta7_6, -, -⟩ := id tv5
    have fm_6 : Fm σ σ5 m A := (fm_4).trans fv5
    have tw_6 : IsTw g σ5 m A (va_up (va_up (va_up iv 3 (nI (min u 7 + 1))) 16 z3) 17 (nI 0)) wd (va_up (va_up (va_up ar 0 w3) 1 (ar 0)) 2 (cpT (ar 0) (if u = 8 then shT (ar 2) 798 else (ar 2)) (114 * min u 7) 114)) rb := ⟨t0_6, tb0, ta0_6, ta1_6, ta2_6, ta3_6, ta4_6, ta5_6, ta6_6, ta7_6, tbb, tii⟩
    subst hQ
    exact s_reti (v := z3) F hW rfl (⟨fm_6, Or.inl ⟨_, _, (rfl).trans hR3, rfl, tw_6⟩⟩) ⟨(Nat.le_of_ble_eq_true rfl), (Nat.le_of_ble_eq_true rfl)⟩ dX3_advance_13
  · obtain ⟨tx3, hR3, rfl, tv3⟩ := hp3
    have hR3 : waitR (ar 0) x = .error tx3 := hR3
    refine W.eq (g2 := F0 m_ 10 ls (.int (nI (en2 tx3)) :: .ref m :: [])) rfl ?_
    obtain ⟨t0_7, -, ta0_7, ta1_7, ta2_7, ta3_7, ta4_7, ta5_7, ta6_7, ta7_7, -, -⟩ := id tv3
    have fm_7 : Fm σ σ3 m A := (fm_2).trans fv3
    have tw_7 : IsTw g σ3 m A (va_up iv 17 (nI 0)) wd (va_up ar 1 (ar 0)) rb := ⟨t0_7, tb0, ta0_7, ta1_7, ta2_7, ta3_7, ta4_7, ta5_7, ta6_7, ta7_7, tbb, tii⟩
    have hbd3 := en2_bd tx3
    refine s_callV (As := [.int (nI (en2 tx3))]) (rest := []) (C := RX3) (T := TX3) (N := 18) (n := 1) F hW (k_X3_ends g l σ3 m A _ _ _ _ (en2 tx3) u tw_7 (by omega) hu hu8) (t0_7) rfl q2358 q2360 qs36 q79 q2361 rfl (by decide +kernel) rfl ⟨⟨Nat.le_of_ble_eq_true rfl, Nat.le_of_ble_eq_true rfl⟩, ⟨(Nat.le_of_ble_eq_true rfl), (Nat.le_of_ble_eq_true rfl)⟩⟩ (Nat.le_of_ble_eq_true rfl) hl.1 rfl dX3_advance_10 cX_no (fun r8 σ8 H locs hp8 hW => ?_)
    obtain ⟨rfl, tv8, fv8⟩ := hp8.1 (by omega)
    refine W.eq (g2 := F0 m_ 13 ls (.int (nI 0) :: [])) rfl ?_
    obtain ⟨t0_9, -, ta0_9, ta1_9, ta2_9, ta3_9, ta4_9, ta5_9, ta6_9, ta7_9, -, -⟩ := id tv8
    have fm_9 : Fm σ σ8 m A := (fm_7).trans fv8
    have tw_9 : IsTw g σ8 m A (va_up iv 17 (nI (en2 tx3))) wd (va_up ar 1 (ar 0)) rb := ⟨t0_9, tb0, ta0_9, ta1_9, ta2_9, ta3_9, ta4_9, ta5_9, ta6_9, ta7_9, tbb, tii⟩
    subst hQ
    exact s_reti (v := (nI 0)) F hW rfl (⟨fm_9, Or.inr ⟨_, (rfl).trans hR3, rfl, tw_9⟩⟩) ⟨(Nat.le_of_ble_eq_true rfl), (Nat.le_of_ble_eq_true rfl)⟩ dX3_advance_13
set_option maxHeartbeats 4000000 in
theorem k_X3_minutesUntilStill (g : Gh) (l : Launch) (σ : Sto) (m : Nat) (A : Nat → Nat) (iv : Nat → Int32) (wd : Nat) (ar : Nat → Nat → Nat) (rb : Nat → Bool)  (hw : IsTw g σ m A iv wd ar rb) (hI : Inv (ar 0)) : Ct g l yX3_minutesUntilStill cX3_minutesUntilStill 3 (some .int) ({ frames := 4, cells := 0, slots := 0, locals := 97 } : Room) [.ref m] σ (fun r σ' => (r = some (.int (msf (ar 0) 0 300)) ∧ msf (ar 0) 0 300 ≠ -1 ∧ IsTw g σ' m A (va_up iv 17 (nI 0)) wd (va_up ar 1 (ar 0)) rb ∧ Fm σ σ' m A) ∨ (msf (ar 0) 0 300 = -1 ∧ r = some (.int (nI 0)) ∧ IsTw g σ' m A (va_up iv 17 (nI 1)) wd (va_up ar 1 (ar 0)) rb ∧ Fm σ σ' m A)) (nox) := by
  refine Ct.body (by decide) (Nat.le_of_ble_eq_true rfl) ?_
  intro p_ e_ s_ m_ args_ below_ meth_ c_ ls H locs Q F hW hl hQ
  have hl : lv_has ls 3 [(0, .ref m)] := hl
  obtain ⟨t0, tb0, ta0, ta1, ta2, ta3, ta4, ta5, ta6, ta7, tbb, tii⟩ := id hw
  have hv0 := hI.1
  have hv1 := hI.2.1
  refine lv_aload_n F.x F.cd dX3_minutesUntilStill_0 rfl (lv_at hl 0 rfl) ?_
  refine s_callV (As := []) (rest := []) (C := RX3) (T := TX3) (N := 18) (n := 0) F hW (k_X3_tries g l σ m A _ _ _ _  hw ) (t0) rfl q2343 q2345 qs33 q79 q2346 rfl (by decide +kernel) rfl ⟨⟨Nat.le_of_ble_eq_true rfl, Nat.le_of_ble_eq_true rfl⟩, ⟨(Nat.le_of_ble_eq_true rfl), (Nat.le_of_ble_eq_true rfl)⟩⟩ (Nat.le_of_ble_eq_true rfl) hl.1 rfl dX3_minutesUntilStill_1 cX_no (fun r1 σ1 H locs hp1 hW => ?_)
  obtain ⟨rfl, tv1, fv1⟩ := hp1
  refine W.eq (g2 := F0 m_ 4 ls ([])) rfl ?_
  obtain ⟨t0_2, -, ta0_2, ta1_2, ta2_2, ta3_2, ta4_2, ta5_2, ta6_2, ta7_2, -, -⟩ := id tv1
  have fm_2 : Fm σ σ1 m A := (Fm.refl).trans fv1
  have tw_2 : IsTw g σ1 m A (va_up iv 17 (nI 0)) wd (va_up ar 1 (ar 0)) rb := ⟨t0_2, tb0, ta0_2, ta1_2, ta2_2, ta3_2, ta4_2, ta5_2, ta6_2, ta7_2, tbb, tii⟩
  refine lv_iconst (v := (nI 0)) F.x F.cd dX3_minutesUntilStill_4 (by decide) ?_
  refine lv_istore_n (lv' := [(1, .int (nI 0)), (0, .ref m)]) F.x F.cd dX3_minutesUntilStill_5 rfl hl (by decide) rfl (fun ls hl => ?_)
  refine lv_aload_n F.x F.cd dX3_minutesUntilStill_6 rfl (lv_at hl 1 rfl) ?_
  refine s_callV (As := []) (rest := []) (C := RX3) (T := TX3) (N := 18) (n := 0) F hW (k_X3_minute g l σ1 m A _ _ _ _  tw_2 hI) (t0_2) rfl q2426 q2428 qs46 q79 q2429 rfl (by decide +kernel) rfl ⟨⟨Nat.le_of_ble_eq_true rfl, Nat.le_of_ble_eq_true rfl⟩, ⟨(Nat.le_of_ble_eq_true rfl), (Nat.le_of_ble_eq_true rfl)⟩⟩ (Nat.le_of_ble_eq_true rfl) hl.1 rfl dX3_minutesUntilStill_7 cX_no (fun r3 σ3 H locs hp3 hW => ?_)
  obtain ⟨rfl, tv3, fv3⟩ := hp3
  refine W.eq (g2 := F0 m_ 10 ls (.int (nI (flN (ar 0) ((ar 0) 1))) :: [])) rfl ?_
  obtain ⟨t0_4, -, ta0_4, ta1_4, ta2_4, ta3_4, ta4_4, ta5_4, ta6_4, ta7_4, -, -⟩ := id tv3
  have fm_4 : Fm σ σ3 m A := (fm_2).trans fv3
  have tw_4 : IsTw g σ3 m A (va_up iv 17 (nI 0)) wd (va_up (va_up ar 0 (minv (ar 0))) 1 (ar 0)) rb := ⟨t0_4, tb0, ta0_4, ta1_4, ta2_4, ta3_4, ta4_4, ta5_4, ta6_4, ta7_4, tbb, tii⟩
  refine lv_istore_n (lv' := [(2, .int (nI (flN (ar 0) ((ar 0) 1)))), (1, .int (nI 0)), (0, .ref m)]) F.x F.cd dX3_minutesUntilStill_10 rfl hl (by decide) rfl (fun ls hl => ?_)
  have loop11 : ∀ (nk : Nat) (k : Nat) (σk : Sto) , k + nk = 301 → IsTw g σk m A (va_up iv 17 (nI 0)) wd (va_up (va_up ar 0 (mins (ar 0) (k + 1))) 1 (ar 0)) rb → Fm σ σk m A → msg (ar 0) k nk = msf (ar 0) 0 300 → ∀ (H : Heap) (locs : List Loc) (ls : Array Slot), Hl g σk H locs → lv_has ls 3 [(0, .ref m), (1, .int (nI k)), (2, .int (nI (flN (mins (ar 0) k) (mins (ar 0) k 1))))] → W p_ l e_ ({ frames := 4, cells := 0, slots := 0, locals := 97 } : Room) s_ m_ args_ below_ meth_ c_ H locs 0 0 Q (F0 m_ 11 ls ([])) := by
    intro nk
    induction nk with
    | zero =>
      intro k σk  hknk twk fmk hfd H locs ls hW hl
      obtain ⟨t0_k5, -, ta0_k5, ta1_k5, ta2_k5, ta3_k5, ta4_k5, ta5_k5, ta6_k5, ta7_k5, -, -⟩ := id twk
      have hIk := inv_mins hI k
      have hIk1 := inv_mins hI (k + 1)
      have hfl := flN_le hIk _ (Nat.le_refl _)
      have h12 := hIk.2.1
      refine lv_iload_n F.x F.cd dX3_minutesUntilStill_11 rfl (lv_at hl 2 rfl) ?_
      refine n_if_le (a := flN (mins (ar 0) k) (mins (ar 0) k 1)) (tgt := 33) F (by omega) dX3_minutesUntilStill_12 (by decide) (fun c_12 => ?_) (fun c_12 => ?_)
      · have hz : msf (ar 0) 0 300 = -1 := by rw [← hfd]; rfl
        refine lv_aload_n F.x F.cd dX3_minutesUntilStill_33 rfl (lv_at hl 0 rfl) ?_
        refine s_callV (As := []) (rest := []) (C := RX3) (T := TX3) (N := 18) (n := 0) F hW (k_X3_forgets g l σk m A _ _ _ _  twk ) (t0_k5) rfl q2606 q2608 qs57 q79 q2609 rfl (by decide +kernel) rfl ⟨⟨Nat.le_of_ble_eq_true rfl, Nat.le_of_ble_eq_true rfl⟩, ⟨(Nat.le_of_ble_eq_true rfl), (Nat.le_of_ble_eq_true rfl)⟩⟩ (Nat.le_of_ble_eq_true rfl) hl.1 rfl dX3_minutesUntilStill_34 cX_no (fun r6 σ6 H locs hp6 hW => ?_)
        obtain ⟨rfl, tv6, fv6⟩ := hp6
        refine W.eq (g2 := F0 m_ 37 ls ([])) rfl ?_
        obtain ⟨t0_7, -, ta0_7, ta1_7, ta2_7, ta3_7, ta4_7, ta5_7, ta6_7, ta7_7, -, -⟩ := id tv6
        have fm_7 : Fm σ σ6 m A := (fmk).trans fv6
        have tw_7 : IsTw g σ6 m A (va_up iv 17 (nI 0)) wd (va_up ar 1 (ar 0)) rb := ⟨t0_7, tb0, ta0_7, ta1_7, ta2_7, ta3_7, ta4_7, ta5_7, ta6_7, ta7_7, tbb, tii⟩
        refine lv_iload_n F.x F.cd dX3_minutesUntilStill_37 rfl (lv_at hl 1 rfl) ?_
        refine lv_sipush (v := (nI 300)) F.x F.cd dX3_minutesUntilStill_38 (by decide) ?_
        refine n_icmp_le (a := k) (b := 300) (tgt := 52) F (by omega) (by omega) dX3_minutesUntilStill_41 (by decide) (fun c_41 => ?_) (fun c_41 => ?_)
        · exact absurd c_41 (by omega)
        · refine lv_aload_n F.x F.cd dX3_minutesUntilStill_44 rfl (lv_at hl 0 rfl) ?_
          refine lv_iconst (v := (nI 1)) F.x F.cd dX3_minutesUntilStill_45 (by decide) ?_
          refine s_callV (As := [.int (nI 1)]) (rest := []) (C := RX3) (T := TX3) (N := 18) (n := 1) F hW (k_X3_raises g l σ6 m A _ _ _ _ (nI 1) tw_7 ) (t0_7) rfl q2362 q2364 qs37 q79 q2365 rfl (by decide +kernel) rfl ⟨⟨Nat.le_of_ble_eq_true rfl, Nat.le_of_ble_eq_true rfl⟩, ⟨(Nat.le_of_ble_eq_true rfl), (Nat.le_of_ble_eq_true rfl)⟩⟩ (Nat.le_of_ble_eq_true rfl) hl.1 rfl dX3_minutesUntilStill_46 cX_no (fun r8 σ8 H locs hp8 hW => ?_)
          obtain ⟨rfl, tv8, fv8⟩ := hp8
          refine W.eq (g2 := F0 m_ 49 ls (.int (nI 0) :: [])) rfl ?_
          obtain ⟨t0_9, -, ta0_9, ta1_9, ta2_9, ta3_9, ta4_9, ta5_9, ta6_9, ta7_9, -, -⟩ := id tv8
          have fm_9 : Fm σ σ8 m A := (fm_7).trans fv8
          have tw_9 : IsTw g σ8 m A (va_up iv 17 (nI 1)) wd (va_up ar 1 (ar 0)) rb := ⟨t0_9, tb0, ta0_9, ta1_9, ta2_9, ta3_9, ta4_9, ta5_9, ta6_9, ta7_9, tbb, tii⟩
          refine lv_goto (tgt := 53) F.x F.cd dX3_minutesUntilStill_49 (by decide) ?_
          subst hQ
          exact s_reti (v := (nI 0)) F hW rfl (Or.inr ⟨hz, rfl, tw_9, fm_9⟩) ⟨(Nat.le_of_ble_eq_true rfl), (Nat.le_of_ble_eq_true rfl)⟩ dX3_minutesUntilStill_53
      · refine lv_iload_n F.x F.cd dX3_minutesUntilStill_15 rfl (lv_at hl 1 rfl) ?_
        refine lv_sipush (v := (nI 300)) F.x F.cd dX3_minutesUntilStill_16 (by decide) ?_
        refine n_icmp_gt (a := k) (b := 300) (tgt := 33) F (by omega) (by omega) dX3_minutesUntilStill_19 (by decide) (fun c_19 => ?_) (fun c_19 => ?_)
        · have hz : msf (ar 0) 0 300 = -1 := by rw [← hfd]; rfl
          refine lv_aload_n F.x F.cd dX3_minutesUntilStill_33 rfl (lv_at hl 0 rfl) ?_
          refine s_callV (As := []) (rest := []) (C := RX3) (T := TX3) (N := 18) (n := 0) F hW (k_X3_forgets g l σk m A _ _ _ _  twk ) (t0_k5) rfl q2606 q2608 qs57 q79 q2609 rfl (by decide +kernel) rfl ⟨⟨Nat.le_of_ble_eq_true rfl, Nat.le_of_ble_eq_true rfl⟩, ⟨(Nat.le_of_ble_eq_true rfl), (Nat.le_of_ble_eq_true rfl)⟩⟩ (Nat.le_of_ble_eq_true rfl) hl.1 rfl dX3_minutesUntilStill_34 cX_no (fun r10 σ10 H locs hp10 hW => ?_)
          obtain ⟨rfl, tv10, fv10⟩ := hp10
          refine W.eq (g2 := F0 m_ 37 ls ([])) rfl ?_
          obtain ⟨t0_11, -, ta0_11, ta1_11, ta2_11, ta3_11, ta4_11, ta5_11, ta6_11, ta7_11, -, -⟩ := id tv10
          have fm_11 : Fm σ σ10 m A := (fmk).trans fv10
          have tw_11 : IsTw g σ10 m A (va_up iv 17 (nI 0)) wd (va_up ar 1 (ar 0)) rb := ⟨t0_11, tb0, ta0_11, ta1_11, ta2_11, ta3_11, ta4_11, ta5_11, ta6_11, ta7_11, tbb, tii⟩
          refine lv_iload_n F.x F.cd dX3_minutesUntilStill_37 rfl (lv_at hl 1 rfl) ?_
          refine lv_sipush (v := (nI 300)) F.x F.cd dX3_minutesUntilStill_38 (by decide) ?_
          refine n_icmp_le (a := k) (b := 300) (tgt := 52) F (by omega) (by omega) dX3_minutesUntilStill_41 (by decide) (fun c_41 => ?_) (fun c_41 => ?_)
          · exact absurd c_41 (by omega)
          · refine lv_aload_n F.x F.cd dX3_minutesUntilStill_44 rfl (lv_at hl 0 rfl) ?_
            refine lv_iconst (v := (nI 1)) F.x F.cd dX3_minutesUntilStill_45 (by decide) ?_
            refine s_callV (As := [.int (nI 1)]) (rest := []) (C := RX3) (T := TX3) (N := 18) (n := 1) F hW (k_X3_raises g l σ10 m A _ _ _ _ (nI 1) tw_11 ) (t0_11) rfl q2362 q2364 qs37 q79 q2365 rfl (by decide +kernel) rfl ⟨⟨Nat.le_of_ble_eq_true rfl, Nat.le_of_ble_eq_true rfl⟩, ⟨(Nat.le_of_ble_eq_true rfl), (Nat.le_of_ble_eq_true rfl)⟩⟩ (Nat.le_of_ble_eq_true rfl) hl.1 rfl dX3_minutesUntilStill_46 cX_no (fun r12 σ12 H locs hp12 hW => ?_)
            obtain ⟨rfl, tv12, fv12⟩ := hp12
            refine W.eq (g2 := F0 m_ 49 ls (.int (nI 0) :: [])) rfl ?_
            obtain ⟨t0_13, -, ta0_13, ta1_13, ta2_13, ta3_13, ta4_13, ta5_13, ta6_13, ta7_13, -, -⟩ := id tv12
            have fm_13 : Fm σ σ12 m A := (fm_11).trans fv12
            have tw_13 : IsTw g σ12 m A (va_up iv 17 (nI 1)) wd (va_up ar 1 (ar 0)) rb := ⟨t0_13, tb0, ta0_13, ta1_13, ta2_13, ta3_13, ta4_13, ta5_13, ta6_13, ta7_13, tbb, tii⟩
            refine lv_goto (tgt := 53) F.x F.cd dX3_minutesUntilStill_49 (by decide) ?_
            subst hQ
            exact s_reti (v := (nI 0)) F hW rfl (Or.inr ⟨hz, rfl, tw_13, fm_13⟩) ⟨(Nat.le_of_ble_eq_true rfl), (Nat.le_of_ble_eq_true rfl)⟩ dX3_minutesUntilStill_53
        · exact absurd c_19 (by omega)
    | succ nk ih11 =>
      intro k σk  hknk twk fmk hfd H locs ls hW hl
      obtain ⟨t0_k5, -, ta0_k5, ta1_k5, ta2_k5, ta3_k5, ta4_k5, ta5_k5, ta6_k5, ta7_k5, -, -⟩ := id twk
      have hIk := inv_mins hI k
      have hIk1 := inv_mins hI (k + 1)
      have hfl := flN_le hIk _ (Nat.le_refl _)
      have h12 := hIk.2.1
      refine lv_iload_n F.x F.cd dX3_minutesUntilStill_11 rfl (lv_at hl 2 rfl) ?_
      refine n_if_le (a := flN (mins (ar 0) k) (mins (ar 0) k 1)) (tgt := 33) F (by omega) dX3_minutesUntilStill_12 (by decide) (fun c_12 => ?_) (fun c_12 => ?_)
      · have hz : msf (ar 0) 0 300 = nI k := by rw [← hfd]; exact if_pos ((flow_still hIk).mp c_12)
        refine lv_aload_n F.x F.cd dX3_minutesUntilStill_33 rfl (lv_at hl 0 rfl) ?_
        refine s_callV (As := []) (rest := []) (C := RX3) (T := TX3) (N := 18) (n := 0) F hW (k_X3_forgets g l σk m A _ _ _ _  twk ) (t0_k5) rfl q2606 q2608 qs57 q79 q2609 rfl (by decide +kernel) rfl ⟨⟨Nat.le_of_ble_eq_true rfl, Nat.le_of_ble_eq_true rfl⟩, ⟨(Nat.le_of_ble_eq_true rfl), (Nat.le_of_ble_eq_true rfl)⟩⟩ (Nat.le_of_ble_eq_true rfl) hl.1 rfl dX3_minutesUntilStill_34 cX_no (fun r14 σ14 H locs hp14 hW => ?_)
        obtain ⟨rfl, tv14, fv14⟩ := hp14
        refine W.eq (g2 := F0 m_ 37 ls ([])) rfl ?_
        obtain ⟨t0_15, -, ta0_15, ta1_15, ta2_15, ta3_15, ta4_15, ta5_15, ta6_15, ta7_15, -, -⟩ := id tv14
        have fm_15 : Fm σ σ14 m A := (fmk).trans fv14
        have tw_15 : IsTw g σ14 m A (va_up iv 17 (nI 0)) wd (va_up ar 1 (ar 0)) rb := ⟨t0_15, tb0, ta0_15, ta1_15, ta2_15, ta3_15, ta4_15, ta5_15, ta6_15, ta7_15, tbb, tii⟩
        refine lv_iload_n F.x F.cd dX3_minutesUntilStill_37 rfl (lv_at hl 1 rfl) ?_
        refine lv_sipush (v := (nI 300)) F.x F.cd dX3_minutesUntilStill_38 (by decide) ?_
        refine n_icmp_le (a := k) (b := 300) (tgt := 52) F (by omega) (by omega) dX3_minutesUntilStill_41 (by decide) (fun c_41 => ?_) (fun c_41 => ?_)
        · refine lv_iload_n F.x F.cd dX3_minutesUntilStill_52 rfl (lv_at hl 1 rfl) ?_
          subst hQ
          exact s_reti (v := (nI k)) F hW rfl (Or.inl ⟨by rw [hz], by rw [hz]; exact nI_neg (by omega), tw_15, fm_15⟩) ⟨(Nat.le_of_ble_eq_true rfl), (Nat.le_of_ble_eq_true rfl)⟩ dX3_minutesUntilStill_53
        · exact absurd c_41 (by omega)
      · refine lv_iload_n F.x F.cd dX3_minutesUntilStill_15 rfl (lv_at hl 1 rfl) ?_
        refine lv_sipush (v := (nI 300)) F.x F.cd dX3_minutesUntilStill_16 (by decide) ?_
        refine n_icmp_gt (a := k) (b := 300) (tgt := 33) F (by omega) (by omega) dX3_minutesUntilStill_19 (by decide) (fun c_19 => ?_) (fun c_19 => ?_)
        · exact absurd c_19 (by omega)
        · refine lv_iinc (k := 1) (v := (nI (k + 1))) (lv' := [(1, .int (nI (k + 1))), (0, .ref m), (2, .int (nI (flN (mins (ar 0) k) (mins (ar 0) k 1))))]) F.x F.cd dX3_minutesUntilStill_22 hl rfl (inc_nI k 1) (by decide) rfl (fun ls hl => ?_)
          refine lv_aload_n F.x F.cd dX3_minutesUntilStill_25 rfl (lv_at hl 1 rfl) ?_
          refine s_callV (As := []) (rest := []) (C := RX3) (T := TX3) (N := 18) (n := 0) F hW (k_X3_minute g l σk m A _ _ _ _  twk hIk1) (t0_k5) rfl q2426 q2428 qs46 q79 q2429 rfl (by decide +kernel) rfl ⟨⟨Nat.le_of_ble_eq_true rfl, Nat.le_of_ble_eq_true rfl⟩, ⟨(Nat.le_of_ble_eq_true rfl), (Nat.le_of_ble_eq_true rfl)⟩⟩ (Nat.le_of_ble_eq_true rfl) hl.1 rfl dX3_minutesUntilStill_26 cX_no (fun r16 σ16 H locs hp16 hW => ?_)
          obtain ⟨rfl, tv16, fv16⟩ := hp16
          refine W.eq (g2 := F0 m_ 29 ls (.int (nI (flN (mins (ar 0) (k + 1)) ((mins (ar 0) (k + 1)) 1))) :: [])) rfl ?_
          obtain ⟨t0_17, -, ta0_17, ta1_17, ta2_17, ta3_17, ta4_17, ta5_17, ta6_17, ta7_17, -, -⟩ := id tv16
          have fm_17 : Fm σ σ16 m A := (fmk).trans fv16
          have tw_17 : IsTw g σ16 m A (va_up iv 17 (nI 0)) wd (va_up (va_up ar 0 (minv (mins (ar 0) (k + 1)))) 1 (ar 0)) rb := ⟨t0_17, tb0, ta0_17, ta1_17, ta2_17, ta3_17, ta4_17, ta5_17, ta6_17, ta7_17, tbb, tii⟩
          refine lv_istore_n (lv' := [(2, .int (nI (flN (mins (ar 0) (k + 1)) ((mins (ar 0) (k + 1)) 1)))), (1, .int (nI (k + 1))), (0, .ref m)]) F.x F.cd dX3_minutesUntilStill_29 rfl hl (by decide) rfl (fun ls hl => ?_)
          refine lv_goto (tgt := 11) F.x F.cd dX3_minutesUntilStill_30 (by decide) ?_
          have tw_19 : IsTw g σ16 m A (va_up iv 17 (nI 0)) wd (va_up (va_up ar 0 (mins (ar 0) (k + 1 + 1))) 1 (ar 0)) rb := by
            show IsTw g σ16 m A (va_up iv 17 (nI 0)) wd (va_up (va_up ar 0 (minv (mins (ar 0) (k + 1)))) 1 (ar 0)) rb
            exact ⟨t0_17, tb0, ta0_17, ta1_17, ta2_17, ta3_17, ta4_17, ta5_17, ta6_17, ta7_17, tbb, tii⟩
          obtain ⟨t0_19, -, ta0_19, ta1_19, ta2_19, ta3_19, ta4_19, ta5_19, ta6_19, ta7_19, -, -⟩ := id tw_19
          exact ih11 (k + 1) σ16 (by omega) (tw_19) (fm_17) (by rw [← hfd]; exact (if_neg (fun h9 => absurd ((flow_still hIk).mpr h9) (by omega))).symm) H locs ls hW (lv_sub hl [2, 1, 0] rfl)
  exact loop11 (301) 0 _  (by omega) (tw_4) (fm_4) (msg_eq 300 0) H locs ls hW (lv_sub hl [2, 1, 0] rfl)
set_option maxHeartbeats 4000000 in
theorem k_X3_ofTank (g : Gh) (l : Launch) (σ : Sto) (m : Nat) (A : Nat → Nat) (iv : Nat → Int32) (wd : Nat) (ar : Nat → Nat → Nat) (rb : Nat → Bool) (x : Int32) (w : Nat) (hw : IsTw g σ m A iv wd ar rb) (hI : Inv (ar 0)) (hw7 : w < 3) : Ct g l yX3_ofTank cX3_ofTank 3 (some .int) ({ frames := 2, cells := 0, slots := 0, locals := 43 } : Room) [.ref m, .int x, .int (nI w)] σ (fun r σ' => (∃ i, i < ar 0 0 ∧ x = nI i ∧ r = some (.int (nI (ar 0 (6 + 3 * i + w)))) ∧ IsTw g σ' m A (va_up iv 17 (nI 0)) wd ar rb ∧ Fm σ σ' m A) ∨ (inN x (ar 0 0) = false ∧ r = some (.int (nI 0)) ∧ IsTw g σ' m A (va_up iv 17 (nI 1)) wd ar rb ∧ Fm σ σ' m A)) (nox) := by
  refine Ct.body (by decide) (Nat.le_of_ble_eq_true rfl) ?_
  intro p_ e_ s_ m_ args_ below_ meth_ c_ ls H locs Q F hW hl hQ
  have hl : lv_has ls 3 [(0, .ref m), (1, .int x), (2, .int (nI w))] := hl
  obtain ⟨t0, tb0, ta0, ta1, ta2, ta3, ta4, ta5, ta6, ta7, tbb, tii⟩ := id hw
  have hv0 := hI.1
  have hv1 := hI.2.1
  refine lv_aload_n F.x F.cd dX3_ofTank_0 rfl (lv_at hl 0 rfl) ?_
  refine lv_aload_n F.x F.cd dX3_ofTank_1 rfl (lv_at hl 0 rfl) ?_
  refine lv_iload_n F.x F.cd dX3_ofTank_2 rfl (lv_at hl 1 rfl) ?_
  refine s_callV (As := [.int x]) (rest := [.ref m]) (C := RX3) (T := TX3) (N := 18) (n := 1) F hW (k_X3_isTank g l σ m A _ _ _ _ x hw ) (t0) rfl q2374 q2376 qs39 q79 q2377 rfl (by decide +kernel) rfl ⟨⟨Nat.le_of_ble_eq_true rfl, Nat.le_of_ble_eq_true rfl⟩, ⟨(Nat.le_of_ble_eq_true rfl), (Nat.le_of_ble_eq_true rfl)⟩⟩ (Nat.le_of_ble_eq_true rfl) hl.1 rfl dX3_ofTank_3 cX_no (fun r1 σ1 H locs hp1 hW => ?_)
  obtain ⟨rfl, hs1⟩ := hp1
  rw [hs1] at hW
  refine W.eq (g2 := F0 m_ 6 ls (.int (bI (inN x ((ar 0) 0))) :: .ref m :: [])) rfl ?_
  refine b_if_eq (b := (inN x ((ar 0) 0))) (tgt := 13) F dX3_ofTank_6 (by decide) (fun c_6 => ?_) (fun c_6 => ?_)
  · refine lv_iconst (v := (nI 1)) F.x F.cd dX3_ofTank_13 (by decide) ?_
    refine s_put F hW (ci := 7) (C := RX3) (T := TX3) (N := 18) (v := .int (nI 1)) (ty := .int) (t0) (tb0) rfl in_X3 tyX3_ok nmX3 17 (by decide) q2296 (fun _ h9 => h9) rfl (by decide +kernel) rfl rfl (Nat.le_of_ble_eq_true rfl) dX3_ofTank_14 (fun H locs hW => ?_)
    obtain ⟨σ3, hσ3⟩ : ∃ z, z = sset σ m (.inr (7, [.ref (A 0), .ref (A 1), .ref (A 2), .int (iv 3), .ref (A 3), .int (iv 5), .ref (A 4), .ref (A 5), .int (iv 8), .ref (A 6), .int (iv 10), .int (iv 11), .ref wd, .ref (A 7), .int (iv 14), .int (iv 15), .int (iv 16), .int (nI 1)])) := ⟨_, rfl⟩
    have hW : Hl g σ3 H locs := by rw [hσ3]; exact hW
    have w3 : σ3 m = some (.inr (7, [.ref (A 0), .ref (A 1), .ref (A 2), .int (iv 3), .ref (A 3), .int (iv 5), .ref (A 4), .ref (A 5), .int (iv 8), .ref (A 6), .int (iv 10), .int (iv 11), .ref wd, .ref (A 7), .int (iv 14), .int (iv 15), .int (iv 16), .int (nI 1)])) := by rw [hσ3]; exact sset_eq
    have f4 : σ3 (A 0) = some (eI g 0 114 (fun x9 => nI ((ar 0) x9))) := by rw [hσ3, sset_ne (sto_ne t0 ta0 (by simp))]; exact ta0
    have f5 : σ3 (A 1) = some (eI g 0 114 (fun x9 => nI ((ar 1) x9))) := by rw [hσ3, sset_ne (sto_ne t0 ta1 (by simp))]; exact ta1
    have f6 : σ3 (A 2) = some (eI g 0 912 (fun x9 => nI ((ar 2) x9))) := by rw [hσ3, sset_ne (sto_ne t0 ta2 (by simp))]; exact ta2
    have f7 : σ3 (A 3) = some (eI g 0 114 (fun x9 => nI ((ar 3) x9))) := by rw [hσ3, sset_ne (sto_ne t0 ta3 (by simp))]; exact ta3
    have f8 : σ3 (A 4) = some (eI g 2 2048 (fun x9 => bI (rb x9))) := by rw [hσ3, sset_ne (sto_ne t0 ta4 (by simp))]; exact ta4
    have f9 : σ3 (A 5) = some (eI g 3 60 (fun x9 => nI ((ar 5) x9))) := by rw [hσ3, sset_ne (sto_ne t0 ta5 (by simp))]; exact ta5
    have f10 : σ3 (A 6) = some (eI g 3 60 (fun x9 => nI ((ar 6) x9))) := by rw [hσ3, sset_ne (sto_ne t0 ta6 (by simp))]; exact ta6
    have f11 : σ3 (A 7) = some (eI g 0 3 (fun x9 => nI ((ar 7) x9))) := by rw [hσ3, sset_ne (sto_ne t0 ta7 (by simp))]; exact ta7
    refine lv_aload_n F.x F.cd dX3_ofTank_17 rfl (lv_at hl 0 rfl) ?_
    refine s_get F hW (ci := 7) (C := RX3) (T := TX3) (N := 18) (v := .int (nI 1)) (w3) rfl in_X3 17 (by decide) q2296 (fun _ h9 => h9) rfl dX3_ofTank_18 ?_
    refine n_if_ne (a := 1) (tgt := 33) F (by omega) dX3_ofTank_21 (by decide) (fun c_21 => ?_) (fun c_21 => absurd c_21 (by decide))
    refine lv_iconst (v := (nI 0)) F.x F.cd dX3_ofTank_33 (by decide) ?_
    have tw12 : IsTw g σ3 m A (va_up iv 17 (nI 1)) wd ar rb := ⟨w3, tb0, f4, f5, f6, f7, f8, f9, f10, f11, tbb, tii⟩
    have fm12 : Fm σ σ3 m A := by rw [hσ3]; exact (Fm.refl).setM
    subst hQ
    exact s_reti (v := (nI 0)) F hW rfl (Or.inr ⟨c_6, rfl, tw12, fm12⟩) ⟨(Nat.le_of_ble_eq_true rfl), (Nat.le_of_ble_eq_true rfl)⟩ dX3_ofTank_34
  · refine lv_iconst (v := (nI 0)) F.x F.cd dX3_ofTank_9 (by decide) ?_
    refine lv_goto (tgt := 14) F.x F.cd dX3_ofTank_10 (by decide) ?_
    refine s_put F hW (ci := 7) (C := RX3) (T := TX3) (N := 18) (v := .int (nI 0)) (ty := .int) (t0) (tb0) rfl in_X3 tyX3_ok nmX3 17 (by decide) q2296 (fun _ h9 => h9) rfl (by decide +kernel) rfl rfl (Nat.le_of_ble_eq_true rfl) dX3_ofTank_14 (fun H locs hW => ?_)
    obtain ⟨σ14, hσ14⟩ : ∃ z, z = sset σ m (.inr (7, [.ref (A 0), .ref (A 1), .ref (A 2), .int (iv 3), .ref (A 3), .int (iv 5), .ref (A 4), .ref (A 5), .int (iv 8), .ref (A 6), .int (iv 10), .int (iv 11), .ref wd, .ref (A 7), .int (iv 14), .int (iv 15), .int (iv 16), .int (nI 0)])) := ⟨_, rfl⟩
    have hW : Hl g σ14 H locs := by rw [hσ14]; exact hW
    have w14 : σ14 m = some (.inr (7, [.ref (A 0), .ref (A 1), .ref (A 2), .int (iv 3), .ref (A 3), .int (iv 5), .ref (A 4), .ref (A 5), .int (iv 8), .ref (A 6), .int (iv 10), .int (iv 11), .ref wd, .ref (A 7), .int (iv 14), .int (iv 15), .int (iv 16), .int (nI 0)])) := by rw [hσ14]; exact sset_eq
    have f15 : σ14 (A 0) = some (eI g 0 114 (fun x9 => nI ((ar 0) x9))) := by rw [hσ14, sset_ne (sto_ne t0 ta0 (by simp))]; exact ta0
    have f16 : σ14 (A 1) = some (eI g 0 114 (fun x9 => nI ((ar 1) x9))) := by rw [hσ14, sset_ne (sto_ne t0 ta1 (by simp))]; exact ta1
    have f17 : σ14 (A 2) = some (eI g 0 912 (fun x9 => nI ((ar 2) x9))) := by rw [hσ14, sset_ne (sto_ne t0 ta2 (by simp))]; exact ta2
    have f18 : σ14 (A 3) = some (eI g 0 114 (fun x9 => nI ((ar 3) x9))) := by rw [hσ14, sset_ne (sto_ne t0 ta3 (by simp))]; exact ta3
    have f19 : σ14 (A 4) = some (eI g 2 2048 (fun x9 => bI (rb x9))) := by rw [hσ14, sset_ne (sto_ne t0 ta4 (by simp))]; exact ta4
    have f20 : σ14 (A 5) = some (eI g 3 60 (fun x9 => nI ((ar 5) x9))) := by rw [hσ14, sset_ne (sto_ne t0 ta5 (by simp))]; exact ta5
    have f21 : σ14 (A 6) = some (eI g 3 60 (fun x9 => nI ((ar 6) x9))) := by rw [hσ14, sset_ne (sto_ne t0 ta6 (by simp))]; exact ta6
    have f22 : σ14 (A 7) = some (eI g 0 3 (fun x9 => nI ((ar 7) x9))) := by rw [hσ14, sset_ne (sto_ne t0 ta7 (by simp))]; exact ta7
    refine lv_aload_n F.x F.cd dX3_ofTank_17 rfl (lv_at hl 0 rfl) ?_
    refine s_get F hW (ci := 7) (C := RX3) (T := TX3) (N := 18) (v := .int (nI 0)) (w14) rfl in_X3 17 (by decide) q2296 (fun _ h9 => h9) rfl dX3_ofTank_18 ?_
    refine n_if_ne (a := 0) (tgt := 33) F (by omega) dX3_ofTank_21 (by decide) (fun c_21 => absurd (by decide) c_21) (fun c_21 => ?_)
    obtain ⟨i, hi, rfl⟩ := (inN_iff (show ar 0 0 < 2 ^ 30 by omega)).mp c_6
    refine lv_aload_n F.x F.cd dX3_ofTank_24 rfl (lv_at hl 0 rfl) ?_
    refine lv_iload_n F.x F.cd dX3_ofTank_25 rfl (lv_at hl 1 rfl) ?_
    refine lv_iload_n F.x F.cd dX3_ofTank_26 rfl (lv_at hl 2 rfl) ?_
    have tw23 : IsTw g σ14 m A (va_up iv 17 (nI 0)) wd ar rb := ⟨w14, tb0, f15, f16, f17, f18, f19, f20, f21, f22, tbb, tii⟩
    have fm23 : Fm σ σ14 m A := by rw [hσ14]; exact (Fm.refl).setM
    refine s_callV (As := [.int (nI i), .int (nI w)]) (rest := []) (C := RX3) (T := TX3) (N := 18) (n := 2) F hW (k_X3_tank g l σ14 m A _ _ _ _ i w tw23 (by omega) (by omega)) (w14) rfl q2438 q2440 qs49 q79 q2441 rfl (by decide +kernel) rfl ⟨⟨Nat.le_of_ble_eq_true rfl, Nat.le_of_ble_eq_true rfl⟩, ⟨(Nat.le_of_ble_eq_true rfl), (Nat.le_of_ble_eq_true rfl)⟩⟩ (Nat.le_of_ble_eq_true rfl) hl.1 rfl dX3_ofTank_27 cX_no (fun r24 σ24 H locs hp24 hW => ?_)
    obtain ⟨rfl, hs24⟩ := hp24
    rw [hs24] at hW
    refine W.eq (g2 := F0 m_ 30 ls (.int (nI ((ar 0) (6 + 3 * i + w))) :: [])) rfl ?_
    refine lv_goto (tgt := 34) F.x F.cd dX3_ofTank_30 (by decide) ?_
    subst hQ
    exact s_reti (v := (nI ((ar 0) (6 + 3 * i + w)))) F hW rfl (Or.inl ⟨i, hi, rfl, rfl, tw23, fm23⟩) ⟨(Nat.le_of_ble_eq_true rfl), (Nat.le_of_ble_eq_true rfl)⟩ dX3_ofTank_34
set_option maxHeartbeats 4000000 in
theorem k_X3_ofPipe (g : Gh) (l : Launch) (σ : Sto) (m : Nat) (A : Nat → Nat) (iv : Nat → Int32) (wd : Nat) (ar : Nat → Nat → Nat) (rb : Nat → Bool) (x : Int32) (w : Nat) (hw : IsTw g σ m A iv wd ar rb) (hI : Inv (ar 0)) (hw7 : w < 7) : Ct g l yX3_ofPipe cX3_ofPipe 3 (some .int) ({ frames := 2, cells := 0, slots := 0, locals := 43 } : Room) [.ref m, .int x, .int (nI w)] σ (fun r σ' => (∃ i, i < ar 0 1 ∧ x = nI i ∧ r = some (.int (nI (ar 0 (30 + 7 * i + w)))) ∧ IsTw g σ' m A (va_up iv 17 (nI 0)) wd ar rb ∧ Fm σ σ' m A) ∨ (inN x (ar 0 1) = false ∧ r = some (.int (nI 0)) ∧ IsTw g σ' m A (va_up iv 17 (nI 1)) wd ar rb ∧ Fm σ σ' m A)) (nox) := by
  refine Ct.body (by decide) (Nat.le_of_ble_eq_true rfl) ?_
  intro p_ e_ s_ m_ args_ below_ meth_ c_ ls H locs Q F hW hl hQ
  have hl : lv_has ls 3 [(0, .ref m), (1, .int x), (2, .int (nI w))] := hl
  obtain ⟨t0, tb0, ta0, ta1, ta2, ta3, ta4, ta5, ta6, ta7, tbb, tii⟩ := id hw
  have hv0 := hI.1
  have hv1 := hI.2.1
  refine lv_aload_n F.x F.cd dX3_ofPipe_0 rfl (lv_at hl 0 rfl) ?_
  refine lv_aload_n F.x F.cd dX3_ofPipe_1 rfl (lv_at hl 0 rfl) ?_
  refine lv_iload_n F.x F.cd dX3_ofPipe_2 rfl (lv_at hl 1 rfl) ?_
  refine s_callV (As := [.int x]) (rest := [.ref m]) (C := RX3) (T := TX3) (N := 18) (n := 1) F hW (k_X3_isPipe g l σ m A _ _ _ _ x hw ) (t0) rfl q2402 q2404 qs43 q79 q2405 rfl (by decide +kernel) rfl ⟨⟨Nat.le_of_ble_eq_true rfl, Nat.le_of_ble_eq_true rfl⟩, ⟨(Nat.le_of_ble_eq_true rfl), (Nat.le_of_ble_eq_true rfl)⟩⟩ (Nat.le_of_ble_eq_true rfl) hl.1 rfl dX3_ofPipe_3 cX_no (fun r1 σ1 H locs hp1 hW => ?_)
  obtain ⟨rfl, hs1⟩ := hp1
  rw [hs1] at hW
  refine W.eq (g2 := F0 m_ 6 ls (.int (bI (inN x ((ar 0) 1))) :: .ref m :: [])) rfl ?_
  refine b_if_eq (b := (inN x ((ar 0) 1))) (tgt := 13) F dX3_ofPipe_6 (by decide) (fun c_6 => ?_) (fun c_6 => ?_)
  · refine lv_iconst (v := (nI 1)) F.x F.cd dX3_ofPipe_13 (by decide) ?_
    refine s_put F hW (ci := 7) (C := RX3) (T := TX3) (N := 18) (v := .int (nI 1)) (ty := .int) (t0) (tb0) rfl in_X3 tyX3_ok nmX3 17 (by decide) q2296 (fun _ h9 => h9) rfl (by decide +kernel) rfl rfl (Nat.le_of_ble_eq_true rfl) dX3_ofPipe_14 (fun H locs hW => ?_)
    obtain ⟨σ3, hσ3⟩ : ∃ z, z = sset σ m (.inr (7, [.ref (A 0), .ref (A 1), .ref (A 2), .int (iv 3), .ref (A 3), .int (iv 5), .ref (A 4), .ref (A 5), .int (iv 8), .ref (A 6), .int (iv 10), .int (iv 11), .ref wd, .ref (A 7), .int (iv 14), .int (iv 15), .int (iv 16), .int (nI 1)])) := ⟨_, rfl⟩
    have hW : Hl g σ3 H locs := by rw [hσ3]; exact hW
    have w3 : σ3 m = some (.inr (7, [.ref (A 0), .ref (A 1), .ref (A 2), .int (iv 3), .ref (A 3), .int (iv 5), .ref (A 4), .ref (A 5), .int (iv 8), .ref (A 6), .int (iv 10), .int (iv 11), .ref wd, .ref (A 7), .int (iv 14), .int (iv 15), .int (iv 16), .int (nI 1)])) := by rw [hσ3]; exact sset_eq
    have f4 : σ3 (A 0) = some (eI g 0 114 (fun x9 => nI ((ar 0) x9))) := by rw [hσ3, sset_ne (sto_ne t0 ta0 (by simp))]; exact ta0
    have f5 : σ3 (A 1) = some (eI g 0 114 (fun x9 => nI ((ar 1) x9))) := by rw [hσ3, sset_ne (sto_ne t0 ta1 (by simp))]; exact ta1
    have f6 : σ3 (A 2) = some (eI g 0 912 (fun x9 => nI ((ar 2) x9))) := by rw [hσ3, sset_ne (sto_ne t0 ta2 (by simp))]; exact ta2
    have f7 : σ3 (A 3) = some (eI g 0 114 (fun x9 => nI ((ar 3) x9))) := by rw [hσ3, sset_ne (sto_ne t0 ta3 (by simp))]; exact ta3
    have f8 : σ3 (A 4) = some (eI g 2 2048 (fun x9 => bI (rb x9))) := by rw [hσ3, sset_ne (sto_ne t0 ta4 (by simp))]; exact ta4
    have f9 : σ3 (A 5) = some (eI g 3 60 (fun x9 => nI ((ar 5) x9))) := by rw [hσ3, sset_ne (sto_ne t0 ta5 (by simp))]; exact ta5
    have f10 : σ3 (A 6) = some (eI g 3 60 (fun x9 => nI ((ar 6) x9))) := by rw [hσ3, sset_ne (sto_ne t0 ta6 (by simp))]; exact ta6
    have f11 : σ3 (A 7) = some (eI g 0 3 (fun x9 => nI ((ar 7) x9))) := by rw [hσ3, sset_ne (sto_ne t0 ta7 (by simp))]; exact ta7
    refine lv_aload_n F.x F.cd dX3_ofPipe_17 rfl (lv_at hl 0 rfl) ?_
    refine s_get F hW (ci := 7) (C := RX3) (T := TX3) (N := 18) (v := .int (nI 1)) (w3) rfl in_X3 17 (by decide) q2296 (fun _ h9 => h9) rfl dX3_ofPipe_18 ?_
    refine n_if_ne (a := 1) (tgt := 33) F (by omega) dX3_ofPipe_21 (by decide) (fun c_21 => ?_) (fun c_21 => absurd c_21 (by decide))
    refine lv_iconst (v := (nI 0)) F.x F.cd dX3_ofPipe_33 (by decide) ?_
    have tw12 : IsTw g σ3 m A (va_up iv 17 (nI 1)) wd ar rb := ⟨w3, tb0, f4, f5, f6, f7, f8, f9, f10, f11, tbb, tii⟩
    have fm12 : Fm σ σ3 m A := by rw [hσ3]; exact (Fm.refl).setM
    subst hQ
    exact s_reti (v := (nI 0)) F hW rfl (Or.inr ⟨c_6, rfl, tw12, fm12⟩) ⟨(Nat.le_of_ble_eq_true rfl), (Nat.le_of_ble_eq_true rfl)⟩ dX3_ofPipe_34
  · refine lv_iconst (v := (nI 0)) F.x F.cd dX3_ofPipe_9 (by decide) ?_
    refine lv_goto (tgt := 14) F.x F.cd dX3_ofPipe_10 (by decide) ?_
    refine s_put F hW (ci := 7) (C := RX3) (T := TX3) (N := 18) (v := .int (nI 0)) (ty := .int) (t0) (tb0) rfl in_X3 tyX3_ok nmX3 17 (by decide) q2296 (fun _ h9 => h9) rfl (by decide +kernel) rfl rfl (Nat.le_of_ble_eq_true rfl) dX3_ofPipe_14 (fun H locs hW => ?_)
    obtain ⟨σ14, hσ14⟩ : ∃ z, z = sset σ m (.inr (7, [.ref (A 0), .ref (A 1), .ref (A 2), .int (iv 3), .ref (A 3), .int (iv 5), .ref (A 4), .ref (A 5), .int (iv 8), .ref (A 6), .int (iv 10), .int (iv 11), .ref wd, .ref (A 7), .int (iv 14), .int (iv 15), .int (iv 16), .int (nI 0)])) := ⟨_, rfl⟩
    have hW : Hl g σ14 H locs := by rw [hσ14]; exact hW
    have w14 : σ14 m = some (.inr (7, [.ref (A 0), .ref (A 1), .ref (A 2), .int (iv 3), .ref (A 3), .int (iv 5), .ref (A 4), .ref (A 5), .int (iv 8), .ref (A 6), .int (iv 10), .int (iv 11), .ref wd, .ref (A 7), .int (iv 14), .int (iv 15), .int (iv 16), .int (nI 0)])) := by rw [hσ14]; exact sset_eq
    have f15 : σ14 (A 0) = some (eI g 0 114 (fun x9 => nI ((ar 0) x9))) := by rw [hσ14, sset_ne (sto_ne t0 ta0 (by simp))]; exact ta0
    have f16 : σ14 (A 1) = some (eI g 0 114 (fun x9 => nI ((ar 1) x9))) := by rw [hσ14, sset_ne (sto_ne t0 ta1 (by simp))]; exact ta1
    have f17 : σ14 (A 2) = some (eI g 0 912 (fun x9 => nI ((ar 2) x9))) := by rw [hσ14, sset_ne (sto_ne t0 ta2 (by simp))]; exact ta2
    have f18 : σ14 (A 3) = some (eI g 0 114 (fun x9 => nI ((ar 3) x9))) := by rw [hσ14, sset_ne (sto_ne t0 ta3 (by simp))]; exact ta3
    have f19 : σ14 (A 4) = some (eI g 2 2048 (fun x9 => bI (rb x9))) := by rw [hσ14, sset_ne (sto_ne t0 ta4 (by simp))]; exact ta4
    have f20 : σ14 (A 5) = some (eI g 3 60 (fun x9 => nI ((ar 5) x9))) := by rw [hσ14, sset_ne (sto_ne t0 ta5 (by simp))]; exact ta5
    have f21 : σ14 (A 6) = some (eI g 3 60 (fun x9 => nI ((ar 6) x9))) := by rw [hσ14, sset_ne (sto_ne t0 ta6 (by simp))]; exact ta6
    have f22 : σ14 (A 7) = some (eI g 0 3 (fun x9 => nI ((ar 7) x9))) := by rw [hσ14, sset_ne (sto_ne t0 ta7 (by simp))]; exact ta7
    refine lv_aload_n F.x F.cd dX3_ofPipe_17 rfl (lv_at hl 0 rfl) ?_
    refine s_get F hW (ci := 7) (C := RX3) (T := TX3) (N := 18) (v := .int (nI 0)) (w14) rfl in_X3 17 (by decide) q2296 (fun _ h9 => h9) rfl dX3_ofPipe_18 ?_
    refine n_if_ne (a := 0) (tgt := 33) F (by omega) dX3_ofPipe_21 (by decide) (fun c_21 => absurd (by decide) c_21) (fun c_21 => ?_)
    obtain ⟨i, hi, rfl⟩ := (inN_iff (show ar 0 1 < 2 ^ 30 by omega)).mp c_6
    refine lv_aload_n F.x F.cd dX3_ofPipe_24 rfl (lv_at hl 0 rfl) ?_
    refine lv_iload_n F.x F.cd dX3_ofPipe_25 rfl (lv_at hl 1 rfl) ?_
    refine lv_iload_n F.x F.cd dX3_ofPipe_26 rfl (lv_at hl 2 rfl) ?_
    have tw23 : IsTw g σ14 m A (va_up iv 17 (nI 0)) wd ar rb := ⟨w14, tb0, f15, f16, f17, f18, f19, f20, f21, f22, tbb, tii⟩
    have fm23 : Fm σ σ14 m A := by rw [hσ14]; exact (Fm.refl).setM
    refine s_callV (As := [.int (nI i), .int (nI w)]) (rest := []) (C := RX3) (T := TX3) (N := 18) (n := 2) F hW (k_X3_pipe g l σ14 m A _ _ _ _ i w tw23 (by omega) (by omega)) (w14) rfl q2406 q2408 qs44 q79 q2409 rfl (by decide +kernel) rfl ⟨⟨Nat.le_of_ble_eq_true rfl, Nat.le_of_ble_eq_true rfl⟩, ⟨(Nat.le_of_ble_eq_true rfl), (Nat.le_of_ble_eq_true rfl)⟩⟩ (Nat.le_of_ble_eq_true rfl) hl.1 rfl dX3_ofPipe_27 cX_no (fun r24 σ24 H locs hp24 hW => ?_)
    obtain ⟨rfl, hs24⟩ := hp24
    rw [hs24] at hW
    refine W.eq (g2 := F0 m_ 30 ls (.int (nI ((ar 0) (30 + 7 * i + w))) :: [])) rfl ?_
    refine lv_goto (tgt := 34) F.x F.cd dX3_ofPipe_30 (by decide) ?_
    subst hQ
    exact s_reti (v := (nI ((ar 0) (30 + 7 * i + w)))) F hW rfl (Or.inl ⟨i, hi, rfl, rfl, tw23, fm23⟩) ⟨(Nat.le_of_ble_eq_true rfl), (Nat.le_of_ble_eq_true rfl)⟩ dX3_ofPipe_34
set_option maxHeartbeats 4000000 in
theorem k_X3_capacity (g : Gh) (l : Launch) (σ : Sto) (m : Nat) (A : Nat → Nat) (iv : Nat → Int32) (wd : Nat) (ar : Nat → Nat → Nat) (rb : Nat → Bool) (x : Int32) (hw : IsTw g σ m A iv wd ar rb) (hI : Inv (ar 0)) : Ct g l yX3_capacity cX3_capacity 2 (some .int) ({ frames := 3, cells := 0, slots := 0, locals := 65 } : Room) [.ref m, .int x] σ (fun r σ' => (∃ i, i < ar 0 0 ∧ x = nI i ∧ r = some (.int (nI (tC (ar 0) i))) ∧ IsTw g σ' m A (va_up iv 17 (nI 0)) wd ar rb ∧ Fm σ σ' m A) ∨ (inN x (ar 0 0) = false ∧ r = some (.int (nI 0)) ∧ IsTw g σ' m A (va_up iv 17 (nI 1)) wd ar rb ∧ Fm σ σ' m A)) (nox) := by
  refine Ct.body (by decide) (Nat.le_of_ble_eq_true rfl) ?_
  intro p_ e_ s_ m_ args_ below_ meth_ c_ ls H locs Q F hW hl hQ
  have hl : lv_has ls 2 [(0, .ref m), (1, .int x)] := hl
  obtain ⟨t0, tb0, ta0, ta1, ta2, ta3, ta4, ta5, ta6, ta7, tbb, tii⟩ := id hw
  have hv0 := hI.1
  have hv1 := hI.2.1
  refine lv_aload_n F.x F.cd dX3_capacity_0 rfl (lv_at hl 0 rfl) ?_
  refine lv_iload_n F.x F.cd dX3_capacity_1 rfl (lv_at hl 1 rfl) ?_
  refine lv_iconst (v := (nI 0)) F.x F.cd dX3_capacity_2 (by decide) ?_
  refine s_callV (As := [.int x, .int (nI 0)]) (rest := []) (C := RX3) (T := TX3) (N := 18) (n := 2) F hW (k_X3_ofTank g l σ m A _ _ _ _ x 0 hw hI (by omega)) (t0) rfl q2460 q2462 qs50 q79 q2463 rfl (by decide +kernel) rfl ⟨⟨Nat.le_of_ble_eq_true rfl, Nat.le_of_ble_eq_true rfl⟩, ⟨(Nat.le_of_ble_eq_true rfl), (Nat.le_of_ble_eq_true rfl)⟩⟩ (Nat.le_of_ble_eq_true rfl) hl.1 rfl dX3_capacity_3 cX_no (fun r1 σ1 H locs hp1 hW => ?_)
  rcases hp1 with ⟨i1, hi1, rfl, rfl, tv1, fv1⟩ | ⟨hz1, rfl, tv1, fv1⟩
  · have hi1 : i1 < (ar 0) 0 := hi1
    refine W.eq (g2 := F0 m_ 6 ls (.int (nI (tC (ar 0) i1)) :: [])) rfl ?_
    obtain ⟨t0_2, -, ta0_2, ta1_2, ta2_2, ta3_2, ta4_2, ta5_2, ta6_2, ta7_2, -, -⟩ := id tv1
    have fm_2 : Fm σ σ1 m A := (Fm.refl).trans fv1
    have tw_2 : IsTw g σ1 m A (va_up iv 17 (nI 0)) wd ar rb := ⟨t0_2, tb0, ta0_2, ta1_2, ta2_2, ta3_2, ta4_2, ta5_2, ta6_2, ta7_2, tbb, tii⟩
    subst hQ
    exact s_reti (v := (nI (tC (ar 0) i1))) F hW rfl (Or.inl ⟨i1, hi1, rfl, rfl, tw_2, fm_2⟩) ⟨(Nat.le_of_ble_eq_true rfl), (Nat.le_of_ble_eq_true rfl)⟩ dX3_capacity_6
  · have hz1 : inN x ((ar 0) 0) = false := hz1
    refine W.eq (g2 := F0 m_ 6 ls (.int (nI 0) :: [])) rfl ?_
    obtain ⟨t0_3, -, ta0_3, ta1_3, ta2_3, ta3_3, ta4_3, ta5_3, ta6_3, ta7_3, -, -⟩ := id tv1
    have fm_3 : Fm σ σ1 m A := (Fm.refl).trans fv1
    have tw_3 : IsTw g σ1 m A (va_up iv 17 (nI 1)) wd ar rb := ⟨t0_3, tb0, ta0_3, ta1_3, ta2_3, ta3_3, ta4_3, ta5_3, ta6_3, ta7_3, tbb, tii⟩
    subst hQ
    exact s_reti (v := (nI 0)) F hW rfl (Or.inr ⟨hz1, rfl, tw_3, fm_3⟩) ⟨(Nat.le_of_ble_eq_true rfl), (Nat.le_of_ble_eq_true rfl)⟩ dX3_capacity_6
set_option maxHeartbeats 4000000 in
theorem k_X3_content (g : Gh) (l : Launch) (σ : Sto) (m : Nat) (A : Nat → Nat) (iv : Nat → Int32) (wd : Nat) (ar : Nat → Nat → Nat) (rb : Nat → Bool) (x : Int32) (hw : IsTw g σ m A iv wd ar rb) (hI : Inv (ar 0)) : Ct g l yX3_content cX3_content 2 (some .int) ({ frames := 3, cells := 0, slots := 0, locals := 65 } : Room) [.ref m, .int x] σ (fun r σ' => (∃ i, i < ar 0 0 ∧ x = nI i ∧ r = some (.int (nI (tK (ar 0) i))) ∧ IsTw g σ' m A (va_up iv 17 (nI 0)) wd ar rb ∧ Fm σ σ' m A) ∨ (inN x (ar 0 0) = false ∧ r = some (.int (nI 0)) ∧ IsTw g σ' m A (va_up iv 17 (nI 1)) wd ar rb ∧ Fm σ σ' m A)) (nox) := by
  refine Ct.body (by decide) (Nat.le_of_ble_eq_true rfl) ?_
  intro p_ e_ s_ m_ args_ below_ meth_ c_ ls H locs Q F hW hl hQ
  have hl : lv_has ls 2 [(0, .ref m), (1, .int x)] := hl
  obtain ⟨t0, tb0, ta0, ta1, ta2, ta3, ta4, ta5, ta6, ta7, tbb, tii⟩ := id hw
  have hv0 := hI.1
  have hv1 := hI.2.1
  refine lv_aload_n F.x F.cd dX3_content_0 rfl (lv_at hl 0 rfl) ?_
  refine lv_iload_n F.x F.cd dX3_content_1 rfl (lv_at hl 1 rfl) ?_
  refine lv_iconst (v := (nI 1)) F.x F.cd dX3_content_2 (by decide) ?_
  refine s_callV (As := [.int x, .int (nI 1)]) (rest := []) (C := RX3) (T := TX3) (N := 18) (n := 2) F hW (k_X3_ofTank g l σ m A _ _ _ _ x 1 hw hI (by omega)) (t0) rfl q2460 q2462 qs50 q79 q2463 rfl (by decide +kernel) rfl ⟨⟨Nat.le_of_ble_eq_true rfl, Nat.le_of_ble_eq_true rfl⟩, ⟨(Nat.le_of_ble_eq_true rfl), (Nat.le_of_ble_eq_true rfl)⟩⟩ (Nat.le_of_ble_eq_true rfl) hl.1 rfl dX3_content_3 cX_no (fun r1 σ1 H locs hp1 hW => ?_)
  rcases hp1 with ⟨i1, hi1, rfl, rfl, tv1, fv1⟩ | ⟨hz1, rfl, tv1, fv1⟩
  · have hi1 : i1 < (ar 0) 0 := hi1
    refine W.eq (g2 := F0 m_ 6 ls (.int (nI (tK (ar 0) i1)) :: [])) rfl ?_
    obtain ⟨t0_2, -, ta0_2, ta1_2, ta2_2, ta3_2, ta4_2, ta5_2, ta6_2, ta7_2, -, -⟩ := id tv1
    have fm_2 : Fm σ σ1 m A := (Fm.refl).trans fv1
    have tw_2 : IsTw g σ1 m A (va_up iv 17 (nI 0)) wd ar rb := ⟨t0_2, tb0, ta0_2, ta1_2, ta2_2, ta3_2, ta4_2, ta5_2, ta6_2, ta7_2, tbb, tii⟩
    subst hQ
    exact s_reti (v := (nI (tK (ar 0) i1))) F hW rfl (Or.inl ⟨i1, hi1, rfl, rfl, tw_2, fm_2⟩) ⟨(Nat.le_of_ble_eq_true rfl), (Nat.le_of_ble_eq_true rfl)⟩ dX3_content_6
  · have hz1 : inN x ((ar 0) 0) = false := hz1
    refine W.eq (g2 := F0 m_ 6 ls (.int (nI 0) :: [])) rfl ?_
    obtain ⟨t0_3, -, ta0_3, ta1_3, ta2_3, ta3_3, ta4_3, ta5_3, ta6_3, ta7_3, -, -⟩ := id tv1
    have fm_3 : Fm σ σ1 m A := (Fm.refl).trans fv1
    have tw_3 : IsTw g σ1 m A (va_up iv 17 (nI 1)) wd ar rb := ⟨t0_3, tb0, ta0_3, ta1_3, ta2_3, ta3_3, ta4_3, ta5_3, ta6_3, ta7_3, tbb, tii⟩
    subst hQ
    exact s_reti (v := (nI 0)) F hW rfl (Or.inr ⟨hz1, rfl, tw_3, fm_3⟩) ⟨(Nat.le_of_ble_eq_true rfl), (Nat.le_of_ble_eq_true rfl)⟩ dX3_content_6
set_option maxHeartbeats 4000000 in
theorem k_X3_impurities (g : Gh) (l : Launch) (σ : Sto) (m : Nat) (A : Nat → Nat) (iv : Nat → Int32) (wd : Nat) (ar : Nat → Nat → Nat) (rb : Nat → Bool) (x : Int32) (hw : IsTw g σ m A iv wd ar rb) (hI : Inv (ar 0)) : Ct g l yX3_impurities cX3_impurities 2 (some .int) ({ frames := 3, cells := 0, slots := 0, locals := 65 } : Room) [.ref m, .int x] σ (fun r σ' => (∃ i, i < ar 0 0 ∧ x = nI i ∧ r = some (.int (nI (tI (ar 0) i))) ∧ IsTw g σ' m A (va_up iv 17 (nI 0)) wd ar rb ∧ Fm σ σ' m A) ∨ (inN x (ar 0 0) = false ∧ r = some (.int (nI 0)) ∧ IsTw g σ' m A (va_up iv 17 (nI 1)) wd ar rb ∧ Fm σ σ' m A)) (nox) := by
  refine Ct.body (by decide) (Nat.le_of_ble_eq_true rfl) ?_
  intro p_ e_ s_ m_ args_ below_ meth_ c_ ls H locs Q F hW hl hQ
  have hl : lv_has ls 2 [(0, .ref m), (1, .int x)] := hl
  obtain ⟨t0, tb0, ta0, ta1, ta2, ta3, ta4, ta5, ta6, ta7, tbb, tii⟩ := id hw
  have hv0 := hI.1
  have hv1 := hI.2.1
  refine lv_aload_n F.x F.cd dX3_impurities_0 rfl (lv_at hl 0 rfl) ?_
  refine lv_iload_n F.x F.cd dX3_impurities_1 rfl (lv_at hl 1 rfl) ?_
  refine lv_iconst (v := (nI 2)) F.x F.cd dX3_impurities_2 (by decide) ?_
  refine s_callV (As := [.int x, .int (nI 2)]) (rest := []) (C := RX3) (T := TX3) (N := 18) (n := 2) F hW (k_X3_ofTank g l σ m A _ _ _ _ x 2 hw hI (by omega)) (t0) rfl q2460 q2462 qs50 q79 q2463 rfl (by decide +kernel) rfl ⟨⟨Nat.le_of_ble_eq_true rfl, Nat.le_of_ble_eq_true rfl⟩, ⟨(Nat.le_of_ble_eq_true rfl), (Nat.le_of_ble_eq_true rfl)⟩⟩ (Nat.le_of_ble_eq_true rfl) hl.1 rfl dX3_impurities_3 cX_no (fun r1 σ1 H locs hp1 hW => ?_)
  rcases hp1 with ⟨i1, hi1, rfl, rfl, tv1, fv1⟩ | ⟨hz1, rfl, tv1, fv1⟩
  · have hi1 : i1 < (ar 0) 0 := hi1
    refine W.eq (g2 := F0 m_ 6 ls (.int (nI (tI (ar 0) i1)) :: [])) rfl ?_
    obtain ⟨t0_2, -, ta0_2, ta1_2, ta2_2, ta3_2, ta4_2, ta5_2, ta6_2, ta7_2, -, -⟩ := id tv1
    have fm_2 : Fm σ σ1 m A := (Fm.refl).trans fv1
    have tw_2 : IsTw g σ1 m A (va_up iv 17 (nI 0)) wd ar rb := ⟨t0_2, tb0, ta0_2, ta1_2, ta2_2, ta3_2, ta4_2, ta5_2, ta6_2, ta7_2, tbb, tii⟩
    subst hQ
    exact s_reti (v := (nI (tI (ar 0) i1))) F hW rfl (Or.inl ⟨i1, hi1, rfl, rfl, tw_2, fm_2⟩) ⟨(Nat.le_of_ble_eq_true rfl), (Nat.le_of_ble_eq_true rfl)⟩ dX3_impurities_6
  · have hz1 : inN x ((ar 0) 0) = false := hz1
    refine W.eq (g2 := F0 m_ 6 ls (.int (nI 0) :: [])) rfl ?_
    obtain ⟨t0_3, -, ta0_3, ta1_3, ta2_3, ta3_3, ta4_3, ta5_3, ta6_3, ta7_3, -, -⟩ := id tv1
    have fm_3 : Fm σ σ1 m A := (Fm.refl).trans fv1
    have tw_3 : IsTw g σ1 m A (va_up iv 17 (nI 1)) wd ar rb := ⟨t0_3, tb0, ta0_3, ta1_3, ta2_3, ta3_3, ta4_3, ta5_3, ta6_3, ta7_3, tbb, tii⟩
    subst hQ
    exact s_reti (v := (nI 0)) F hW rfl (Or.inr ⟨hz1, rfl, tw_3, fm_3⟩) ⟨(Nat.le_of_ble_eq_true rfl), (Nat.le_of_ble_eq_true rfl)⟩ dX3_impurities_6
set_option maxHeartbeats 4000000 in
theorem k_X3_firstOf (g : Gh) (l : Launch) (σ : Sto) (m : Nat) (A : Nat → Nat) (iv : Nat → Int32) (wd : Nat) (ar : Nat → Nat → Nat) (rb : Nat → Bool) (x : Int32) (hw : IsTw g σ m A iv wd ar rb) (hI : Inv (ar 0)) : Ct g l yX3_firstOf cX3_firstOf 2 (some .int) ({ frames := 3, cells := 0, slots := 0, locals := 65 } : Room) [.ref m, .int x] σ (fun r σ' => (∃ i, i < ar 0 1 ∧ x = nI i ∧ r = some (.int (nI (pA (ar 0) i))) ∧ IsTw g σ' m A (va_up iv 17 (nI 0)) wd ar rb ∧ Fm σ σ' m A) ∨ (inN x (ar 0 1) = false ∧ r = some (.int (nI 0)) ∧ IsTw g σ' m A (va_up iv 17 (nI 1)) wd ar rb ∧ Fm σ σ' m A)) (nox) := by
  refine Ct.body (by decide) (Nat.le_of_ble_eq_true rfl) ?_
  intro p_ e_ s_ m_ args_ below_ meth_ c_ ls H locs Q F hW hl hQ
  have hl : lv_has ls 2 [(0, .ref m), (1, .int x)] := hl
  obtain ⟨t0, tb0, ta0, ta1, ta2, ta3, ta4, ta5, ta6, ta7, tbb, tii⟩ := id hw
  have hv0 := hI.1
  have hv1 := hI.2.1
  refine lv_aload_n F.x F.cd dX3_firstOf_0 rfl (lv_at hl 0 rfl) ?_
  refine lv_iload_n F.x F.cd dX3_firstOf_1 rfl (lv_at hl 1 rfl) ?_
  refine lv_iconst (v := (nI 0)) F.x F.cd dX3_firstOf_2 (by decide) ?_
  refine s_callV (As := [.int x, .int (nI 0)]) (rest := []) (C := RX3) (T := TX3) (N := 18) (n := 2) F hW (k_X3_ofPipe g l σ m A _ _ _ _ x 0 hw hI (by omega)) (t0) rfl q2498 q2500 qs51 q79 q2501 rfl (by decide +kernel) rfl ⟨⟨Nat.le_of_ble_eq_true rfl, Nat.le_of_ble_eq_true rfl⟩, ⟨(Nat.le_of_ble_eq_true rfl), (Nat.le_of_ble_eq_true rfl)⟩⟩ (Nat.le_of_ble_eq_true rfl) hl.1 rfl dX3_firstOf_3 cX_no (fun r1 σ1 H locs hp1 hW => ?_)
  rcases hp1 with ⟨i1, hi1, rfl, rfl, tv1, fv1⟩ | ⟨hz1, rfl, tv1, fv1⟩
  · have hi1 : i1 < (ar 0) 1 := hi1
    refine W.eq (g2 := F0 m_ 6 ls (.int (nI (pA (ar 0) i1)) :: [])) rfl ?_
    obtain ⟨t0_2, -, ta0_2, ta1_2, ta2_2, ta3_2, ta4_2, ta5_2, ta6_2, ta7_2, -, -⟩ := id tv1
    have fm_2 : Fm σ σ1 m A := (Fm.refl).trans fv1
    have tw_2 : IsTw g σ1 m A (va_up iv 17 (nI 0)) wd ar rb := ⟨t0_2, tb0, ta0_2, ta1_2, ta2_2, ta3_2, ta4_2, ta5_2, ta6_2, ta7_2, tbb, tii⟩
    subst hQ
    exact s_reti (v := (nI (pA (ar 0) i1))) F hW rfl (Or.inl ⟨i1, hi1, rfl, rfl, tw_2, fm_2⟩) ⟨(Nat.le_of_ble_eq_true rfl), (Nat.le_of_ble_eq_true rfl)⟩ dX3_firstOf_6
  · have hz1 : inN x ((ar 0) 1) = false := hz1
    refine W.eq (g2 := F0 m_ 6 ls (.int (nI 0) :: [])) rfl ?_
    obtain ⟨t0_3, -, ta0_3, ta1_3, ta2_3, ta3_3, ta4_3, ta5_3, ta6_3, ta7_3, -, -⟩ := id tv1
    have fm_3 : Fm σ σ1 m A := (Fm.refl).trans fv1
    have tw_3 : IsTw g σ1 m A (va_up iv 17 (nI 1)) wd ar rb := ⟨t0_3, tb0, ta0_3, ta1_3, ta2_3, ta3_3, ta4_3, ta5_3, ta6_3, ta7_3, tbb, tii⟩
    subst hQ
    exact s_reti (v := (nI 0)) F hW rfl (Or.inr ⟨hz1, rfl, tw_3, fm_3⟩) ⟨(Nat.le_of_ble_eq_true rfl), (Nat.le_of_ble_eq_true rfl)⟩ dX3_firstOf_6
set_option maxHeartbeats 4000000 in
theorem k_X3_secondOf (g : Gh) (l : Launch) (σ : Sto) (m : Nat) (A : Nat → Nat) (iv : Nat → Int32) (wd : Nat) (ar : Nat → Nat → Nat) (rb : Nat → Bool) (x : Int32) (hw : IsTw g σ m A iv wd ar rb) (hI : Inv (ar 0)) : Ct g l yX3_secondOf cX3_secondOf 2 (some .int) ({ frames := 3, cells := 0, slots := 0, locals := 65 } : Room) [.ref m, .int x] σ (fun r σ' => (∃ i, i < ar 0 1 ∧ x = nI i ∧ r = some (.int (nI (pB (ar 0) i))) ∧ IsTw g σ' m A (va_up iv 17 (nI 0)) wd ar rb ∧ Fm σ σ' m A) ∨ (inN x (ar 0 1) = false ∧ r = some (.int (nI 0)) ∧ IsTw g σ' m A (va_up iv 17 (nI 1)) wd ar rb ∧ Fm σ σ' m A)) (nox) := by
  refine Ct.body (by decide) (Nat.le_of_ble_eq_true rfl) ?_
  intro p_ e_ s_ m_ args_ below_ meth_ c_ ls H locs Q F hW hl hQ
  have hl : lv_has ls 2 [(0, .ref m), (1, .int x)] := hl
  obtain ⟨t0, tb0, ta0, ta1, ta2, ta3, ta4, ta5, ta6, ta7, tbb, tii⟩ := id hw
  have hv0 := hI.1
  have hv1 := hI.2.1
  refine lv_aload_n F.x F.cd dX3_secondOf_0 rfl (lv_at hl 0 rfl) ?_
  refine lv_iload_n F.x F.cd dX3_secondOf_1 rfl (lv_at hl 1 rfl) ?_
  refine lv_iconst (v := (nI 1)) F.x F.cd dX3_secondOf_2 (by decide) ?_
  refine s_callV (As := [.int x, .int (nI 1)]) (rest := []) (C := RX3) (T := TX3) (N := 18) (n := 2) F hW (k_X3_ofPipe g l σ m A _ _ _ _ x 1 hw hI (by omega)) (t0) rfl q2498 q2500 qs51 q79 q2501 rfl (by decide +kernel) rfl ⟨⟨Nat.le_of_ble_eq_true rfl, Nat.le_of_ble_eq_true rfl⟩, ⟨(Nat.le_of_ble_eq_true rfl), (Nat.le_of_ble_eq_true rfl)⟩⟩ (Nat.le_of_ble_eq_true rfl) hl.1 rfl dX3_secondOf_3 cX_no (fun r1 σ1 H locs hp1 hW => ?_)
  rcases hp1 with ⟨i1, hi1, rfl, rfl, tv1, fv1⟩ | ⟨hz1, rfl, tv1, fv1⟩
  · have hi1 : i1 < (ar 0) 1 := hi1
    refine W.eq (g2 := F0 m_ 6 ls (.int (nI (pB (ar 0) i1)) :: [])) rfl ?_
    obtain ⟨t0_2, -, ta0_2, ta1_2, ta2_2, ta3_2, ta4_2, ta5_2, ta6_2, ta7_2, -, -⟩ := id tv1
    have fm_2 : Fm σ σ1 m A := (Fm.refl).trans fv1
    have tw_2 : IsTw g σ1 m A (va_up iv 17 (nI 0)) wd ar rb := ⟨t0_2, tb0, ta0_2, ta1_2, ta2_2, ta3_2, ta4_2, ta5_2, ta6_2, ta7_2, tbb, tii⟩
    subst hQ
    exact s_reti (v := (nI (pB (ar 0) i1))) F hW rfl (Or.inl ⟨i1, hi1, rfl, rfl, tw_2, fm_2⟩) ⟨(Nat.le_of_ble_eq_true rfl), (Nat.le_of_ble_eq_true rfl)⟩ dX3_secondOf_6
  · have hz1 : inN x ((ar 0) 1) = false := hz1
    refine W.eq (g2 := F0 m_ 6 ls (.int (nI 0) :: [])) rfl ?_
    obtain ⟨t0_3, -, ta0_3, ta1_3, ta2_3, ta3_3, ta4_3, ta5_3, ta6_3, ta7_3, -, -⟩ := id tv1
    have fm_3 : Fm σ σ1 m A := (Fm.refl).trans fv1
    have tw_3 : IsTw g σ1 m A (va_up iv 17 (nI 1)) wd ar rb := ⟨t0_3, tb0, ta0_3, ta1_3, ta2_3, ta3_3, ta4_3, ta5_3, ta6_3, ta7_3, tbb, tii⟩
    subst hQ
    exact s_reti (v := (nI 0)) F hW rfl (Or.inr ⟨hz1, rfl, tw_3, fm_3⟩) ⟨(Nat.le_of_ble_eq_true rfl), (Nat.le_of_ble_eq_true rfl)⟩ dX3_secondOf_6
set_option maxHeartbeats 4000000 in
theorem k_X3_valve (g : Gh) (l : Launch) (σ : Sto) (m : Nat) (A : Nat → Nat) (iv : Nat → Int32) (wd : Nat) (ar : Nat → Nat → Nat) (rb : Nat → Bool) (x : Int32) (hw : IsTw g σ m A iv wd ar rb) (hI : Inv (ar 0)) : Ct g l yX3_valve cX3_valve 2 (some .int) ({ frames := 3, cells := 0, slots := 0, locals := 65 } : Room) [.ref m, .int x] σ (fun r σ' => (∃ i, i < ar 0 1 ∧ x = nI i ∧ r = some (.int (nI (pV (ar 0) i))) ∧ IsTw g σ' m A (va_up iv 17 (nI 0)) wd ar rb ∧ Fm σ σ' m A) ∨ (inN x (ar 0 1) = false ∧ r = some (.int (nI 0)) ∧ IsTw g σ' m A (va_up iv 17 (nI 1)) wd ar rb ∧ Fm σ σ' m A)) (nox) := by
  refine Ct.body (by decide) (Nat.le_of_ble_eq_true rfl) ?_
  intro p_ e_ s_ m_ args_ below_ meth_ c_ ls H locs Q F hW hl hQ
  have hl : lv_has ls 2 [(0, .ref m), (1, .int x)] := hl
  obtain ⟨t0, tb0, ta0, ta1, ta2, ta3, ta4, ta5, ta6, ta7, tbb, tii⟩ := id hw
  have hv0 := hI.1
  have hv1 := hI.2.1
  refine lv_aload_n F.x F.cd dX3_valve_0 rfl (lv_at hl 0 rfl) ?_
  refine lv_iload_n F.x F.cd dX3_valve_1 rfl (lv_at hl 1 rfl) ?_
  refine lv_iconst (v := (nI 3)) F.x F.cd dX3_valve_2 (by decide) ?_
  refine s_callV (As := [.int x, .int (nI 3)]) (rest := []) (C := RX3) (T := TX3) (N := 18) (n := 2) F hW (k_X3_ofPipe g l σ m A _ _ _ _ x 3 hw hI (by omega)) (t0) rfl q2498 q2500 qs51 q79 q2501 rfl (by decide +kernel) rfl ⟨⟨Nat.le_of_ble_eq_true rfl, Nat.le_of_ble_eq_true rfl⟩, ⟨(Nat.le_of_ble_eq_true rfl), (Nat.le_of_ble_eq_true rfl)⟩⟩ (Nat.le_of_ble_eq_true rfl) hl.1 rfl dX3_valve_3 cX_no (fun r1 σ1 H locs hp1 hW => ?_)
  rcases hp1 with ⟨i1, hi1, rfl, rfl, tv1, fv1⟩ | ⟨hz1, rfl, tv1, fv1⟩
  · have hi1 : i1 < (ar 0) 1 := hi1
    refine W.eq (g2 := F0 m_ 6 ls (.int (nI (pV (ar 0) i1)) :: [])) rfl ?_
    obtain ⟨t0_2, -, ta0_2, ta1_2, ta2_2, ta3_2, ta4_2, ta5_2, ta6_2, ta7_2, -, -⟩ := id tv1
    have fm_2 : Fm σ σ1 m A := (Fm.refl).trans fv1
    have tw_2 : IsTw g σ1 m A (va_up iv 17 (nI 0)) wd ar rb := ⟨t0_2, tb0, ta0_2, ta1_2, ta2_2, ta3_2, ta4_2, ta5_2, ta6_2, ta7_2, tbb, tii⟩
    subst hQ
    exact s_reti (v := (nI (pV (ar 0) i1))) F hW rfl (Or.inl ⟨i1, hi1, rfl, rfl, tw_2, fm_2⟩) ⟨(Nat.le_of_ble_eq_true rfl), (Nat.le_of_ble_eq_true rfl)⟩ dX3_valve_6
  · have hz1 : inN x ((ar 0) 1) = false := hz1
    refine W.eq (g2 := F0 m_ 6 ls (.int (nI 0) :: [])) rfl ?_
    obtain ⟨t0_3, -, ta0_3, ta1_3, ta2_3, ta3_3, ta4_3, ta5_3, ta6_3, ta7_3, -, -⟩ := id tv1
    have fm_3 : Fm σ σ1 m A := (Fm.refl).trans fv1
    have tw_3 : IsTw g σ1 m A (va_up iv 17 (nI 1)) wd ar rb := ⟨t0_3, tb0, ta0_3, ta1_3, ta2_3, ta3_3, ta4_3, ta5_3, ta6_3, ta7_3, tbb, tii⟩
    subst hQ
    exact s_reti (v := (nI 0)) F hW rfl (Or.inr ⟨hz1, rfl, tw_3, fm_3⟩) ⟨(Nat.le_of_ble_eq_true rfl), (Nat.le_of_ble_eq_true rfl)⟩ dX3_valve_6
set_option maxHeartbeats 4000000 in
theorem k_X3_leak (g : Gh) (l : Launch) (σ : Sto) (m : Nat) (A : Nat → Nat) (iv : Nat → Int32) (wd : Nat) (ar : Nat → Nat → Nat) (rb : Nat → Bool) (x : Int32) (hw : IsTw g σ m A iv wd ar rb) (hI : Inv (ar 0)) : Ct g l yX3_leak cX3_leak 2 (some .int) ({ frames := 3, cells := 0, slots := 0, locals := 65 } : Room) [.ref m, .int x] σ (fun r σ' => (∃ i, i < ar 0 1 ∧ x = nI i ∧ r = some (.int (nI (pR (ar 0) i))) ∧ IsTw g σ' m A (va_up iv 17 (nI 0)) wd ar rb ∧ Fm σ σ' m A) ∨ (inN x (ar 0 1) = false ∧ r = some (.int (nI 0)) ∧ IsTw g σ' m A (va_up iv 17 (nI 1)) wd ar rb ∧ Fm σ σ' m A)) (nox) := by
  refine Ct.body (by decide) (Nat.le_of_ble_eq_true rfl) ?_
  intro p_ e_ s_ m_ args_ below_ meth_ c_ ls H locs Q F hW hl hQ
  have hl : lv_has ls 2 [(0, .ref m), (1, .int x)] := hl
  obtain ⟨t0, tb0, ta0, ta1, ta2, ta3, ta4, ta5, ta6, ta7, tbb, tii⟩ := id hw
  have hv0 := hI.1
  have hv1 := hI.2.1
  refine lv_aload_n F.x F.cd dX3_leak_0 rfl (lv_at hl 0 rfl) ?_
  refine lv_iload_n F.x F.cd dX3_leak_1 rfl (lv_at hl 1 rfl) ?_
  refine lv_iconst (v := (nI 4)) F.x F.cd dX3_leak_2 (by decide) ?_
  refine s_callV (As := [.int x, .int (nI 4)]) (rest := []) (C := RX3) (T := TX3) (N := 18) (n := 2) F hW (k_X3_ofPipe g l σ m A _ _ _ _ x 4 hw hI (by omega)) (t0) rfl q2498 q2500 qs51 q79 q2501 rfl (by decide +kernel) rfl ⟨⟨Nat.le_of_ble_eq_true rfl, Nat.le_of_ble_eq_true rfl⟩, ⟨(Nat.le_of_ble_eq_true rfl), (Nat.le_of_ble_eq_true rfl)⟩⟩ (Nat.le_of_ble_eq_true rfl) hl.1 rfl dX3_leak_3 cX_no (fun r1 σ1 H locs hp1 hW => ?_)
  rcases hp1 with ⟨i1, hi1, rfl, rfl, tv1, fv1⟩ | ⟨hz1, rfl, tv1, fv1⟩
  · have hi1 : i1 < (ar 0) 1 := hi1
    refine W.eq (g2 := F0 m_ 6 ls (.int (nI (pR (ar 0) i1)) :: [])) rfl ?_
    obtain ⟨t0_2, -, ta0_2, ta1_2, ta2_2, ta3_2, ta4_2, ta5_2, ta6_2, ta7_2, -, -⟩ := id tv1
    have fm_2 : Fm σ σ1 m A := (Fm.refl).trans fv1
    have tw_2 : IsTw g σ1 m A (va_up iv 17 (nI 0)) wd ar rb := ⟨t0_2, tb0, ta0_2, ta1_2, ta2_2, ta3_2, ta4_2, ta5_2, ta6_2, ta7_2, tbb, tii⟩
    subst hQ
    exact s_reti (v := (nI (pR (ar 0) i1))) F hW rfl (Or.inl ⟨i1, hi1, rfl, rfl, tw_2, fm_2⟩) ⟨(Nat.le_of_ble_eq_true rfl), (Nat.le_of_ble_eq_true rfl)⟩ dX3_leak_6
  · have hz1 : inN x ((ar 0) 1) = false := hz1
    refine W.eq (g2 := F0 m_ 6 ls (.int (nI 0) :: [])) rfl ?_
    obtain ⟨t0_3, -, ta0_3, ta1_3, ta2_3, ta3_3, ta4_3, ta5_3, ta6_3, ta7_3, -, -⟩ := id tv1
    have fm_3 : Fm σ σ1 m A := (Fm.refl).trans fv1
    have tw_3 : IsTw g σ1 m A (va_up iv 17 (nI 1)) wd ar rb := ⟨t0_3, tb0, ta0_3, ta1_3, ta2_3, ta3_3, ta4_3, ta5_3, ta6_3, ta7_3, tbb, tii⟩
    subst hQ
    exact s_reti (v := (nI 0)) F hW rfl (Or.inr ⟨hz1, rfl, tw_3, fm_3⟩) ⟨(Nat.le_of_ble_eq_true rfl), (Nat.le_of_ble_eq_true rfl)⟩ dX3_leak_6
set_option maxHeartbeats 4000000 in
theorem k_X3_mesh (g : Gh) (l : Launch) (σ : Sto) (m : Nat) (A : Nat → Nat) (iv : Nat → Int32) (wd : Nat) (ar : Nat → Nat → Nat) (rb : Nat → Bool) (x : Int32) (hw : IsTw g σ m A iv wd ar rb) (hI : Inv (ar 0)) : Ct g l yX3_mesh cX3_mesh 2 (some .int) ({ frames := 3, cells := 0, slots := 0, locals := 65 } : Room) [.ref m, .int x] σ (fun r σ' => (∃ i, i < ar 0 1 ∧ x = nI i ∧ r = some (.int (nI (pM (ar 0) i))) ∧ IsTw g σ' m A (va_up iv 17 (nI 0)) wd ar rb ∧ Fm σ σ' m A) ∨ (inN x (ar 0 1) = false ∧ r = some (.int (nI 0)) ∧ IsTw g σ' m A (va_up iv 17 (nI 1)) wd ar rb ∧ Fm σ σ' m A)) (nox) := by
  refine Ct.body (by decide) (Nat.le_of_ble_eq_true rfl) ?_
  intro p_ e_ s_ m_ args_ below_ meth_ c_ ls H locs Q F hW hl hQ
  have hl : lv_has ls 2 [(0, .ref m), (1, .int x)] := hl
  obtain ⟨t0, tb0, ta0, ta1, ta2, ta3, ta4, ta5, ta6, ta7, tbb, tii⟩ := id hw
  have hv0 := hI.1
  have hv1 := hI.2.1
  refine lv_aload_n F.x F.cd dX3_mesh_0 rfl (lv_at hl 0 rfl) ?_
  refine lv_iload_n F.x F.cd dX3_mesh_1 rfl (lv_at hl 1 rfl) ?_
  refine lv_iconst (v := (nI 2)) F.x F.cd dX3_mesh_2 (by decide) ?_
  refine s_callV (As := [.int x, .int (nI 2)]) (rest := []) (C := RX3) (T := TX3) (N := 18) (n := 2) F hW (k_X3_ofPipe g l σ m A _ _ _ _ x 2 hw hI (by omega)) (t0) rfl q2498 q2500 qs51 q79 q2501 rfl (by decide +kernel) rfl ⟨⟨Nat.le_of_ble_eq_true rfl, Nat.le_of_ble_eq_true rfl⟩, ⟨(Nat.le_of_ble_eq_true rfl), (Nat.le_of_ble_eq_true rfl)⟩⟩ (Nat.le_of_ble_eq_true rfl) hl.1 rfl dX3_mesh_3 cX_no (fun r1 σ1 H locs hp1 hW => ?_)
  rcases hp1 with ⟨i1, hi1, rfl, rfl, tv1, fv1⟩ | ⟨hz1, rfl, tv1, fv1⟩
  · have hi1 : i1 < (ar 0) 1 := hi1
    refine W.eq (g2 := F0 m_ 6 ls (.int (nI (pM (ar 0) i1)) :: [])) rfl ?_
    obtain ⟨t0_2, -, ta0_2, ta1_2, ta2_2, ta3_2, ta4_2, ta5_2, ta6_2, ta7_2, -, -⟩ := id tv1
    have fm_2 : Fm σ σ1 m A := (Fm.refl).trans fv1
    have tw_2 : IsTw g σ1 m A (va_up iv 17 (nI 0)) wd ar rb := ⟨t0_2, tb0, ta0_2, ta1_2, ta2_2, ta3_2, ta4_2, ta5_2, ta6_2, ta7_2, tbb, tii⟩
    subst hQ
    exact s_reti (v := (nI (pM (ar 0) i1))) F hW rfl (Or.inl ⟨i1, hi1, rfl, rfl, tw_2, fm_2⟩) ⟨(Nat.le_of_ble_eq_true rfl), (Nat.le_of_ble_eq_true rfl)⟩ dX3_mesh_6
  · have hz1 : inN x ((ar 0) 1) = false := hz1
    refine W.eq (g2 := F0 m_ 6 ls (.int (nI 0) :: [])) rfl ?_
    obtain ⟨t0_3, -, ta0_3, ta1_3, ta2_3, ta3_3, ta4_3, ta5_3, ta6_3, ta7_3, -, -⟩ := id tv1
    have fm_3 : Fm σ σ1 m A := (Fm.refl).trans fv1
    have tw_3 : IsTw g σ1 m A (va_up iv 17 (nI 1)) wd ar rb := ⟨t0_3, tb0, ta0_3, ta1_3, ta2_3, ta3_3, ta4_3, ta5_3, ta6_3, ta7_3, tbb, tii⟩
    subst hQ
    exact s_reti (v := (nI 0)) F hW rfl (Or.inr ⟨hz1, rfl, tw_3, fm_3⟩) ⟨(Nat.le_of_ble_eq_true rfl), (Nat.le_of_ble_eq_true rfl)⟩ dX3_mesh_6
set_option maxHeartbeats 4000000 in
theorem k_X3_dirt (g : Gh) (l : Launch) (σ : Sto) (m : Nat) (A : Nat → Nat) (iv : Nat → Int32) (wd : Nat) (ar : Nat → Nat → Nat) (rb : Nat → Bool) (x : Int32) (hw : IsTw g σ m A iv wd ar rb) (hI : Inv (ar 0)) : Ct g l yX3_dirt cX3_dirt 2 (some .int) ({ frames := 3, cells := 0, slots := 0, locals := 65 } : Room) [.ref m, .int x] σ (fun r σ' => (∃ i, i < ar 0 1 ∧ x = nI i ∧ r = some (.int (nI (pD (ar 0) i))) ∧ IsTw g σ' m A (va_up iv 17 (nI 0)) wd ar rb ∧ Fm σ σ' m A) ∨ (inN x (ar 0 1) = false ∧ r = some (.int (nI 0)) ∧ IsTw g σ' m A (va_up iv 17 (nI 1)) wd ar rb ∧ Fm σ σ' m A)) (nox) := by
  refine Ct.body (by decide) (Nat.le_of_ble_eq_true rfl) ?_
  intro p_ e_ s_ m_ args_ below_ meth_ c_ ls H locs Q F hW hl hQ
  have hl : lv_has ls 2 [(0, .ref m), (1, .int x)] := hl
  obtain ⟨t0, tb0, ta0, ta1, ta2, ta3, ta4, ta5, ta6, ta7, tbb, tii⟩ := id hw
  have hv0 := hI.1
  have hv1 := hI.2.1
  refine lv_aload_n F.x F.cd dX3_dirt_0 rfl (lv_at hl 0 rfl) ?_
  refine lv_iload_n F.x F.cd dX3_dirt_1 rfl (lv_at hl 1 rfl) ?_
  refine lv_iconst (v := (nI 5)) F.x F.cd dX3_dirt_2 (by decide) ?_
  refine s_callV (As := [.int x, .int (nI 5)]) (rest := []) (C := RX3) (T := TX3) (N := 18) (n := 2) F hW (k_X3_ofPipe g l σ m A _ _ _ _ x 5 hw hI (by omega)) (t0) rfl q2498 q2500 qs51 q79 q2501 rfl (by decide +kernel) rfl ⟨⟨Nat.le_of_ble_eq_true rfl, Nat.le_of_ble_eq_true rfl⟩, ⟨(Nat.le_of_ble_eq_true rfl), (Nat.le_of_ble_eq_true rfl)⟩⟩ (Nat.le_of_ble_eq_true rfl) hl.1 rfl dX3_dirt_3 cX_no (fun r1 σ1 H locs hp1 hW => ?_)
  rcases hp1 with ⟨i1, hi1, rfl, rfl, tv1, fv1⟩ | ⟨hz1, rfl, tv1, fv1⟩
  · have hi1 : i1 < (ar 0) 1 := hi1
    refine W.eq (g2 := F0 m_ 6 ls (.int (nI (pD (ar 0) i1)) :: [])) rfl ?_
    obtain ⟨t0_2, -, ta0_2, ta1_2, ta2_2, ta3_2, ta4_2, ta5_2, ta6_2, ta7_2, -, -⟩ := id tv1
    have fm_2 : Fm σ σ1 m A := (Fm.refl).trans fv1
    have tw_2 : IsTw g σ1 m A (va_up iv 17 (nI 0)) wd ar rb := ⟨t0_2, tb0, ta0_2, ta1_2, ta2_2, ta3_2, ta4_2, ta5_2, ta6_2, ta7_2, tbb, tii⟩
    subst hQ
    exact s_reti (v := (nI (pD (ar 0) i1))) F hW rfl (Or.inl ⟨i1, hi1, rfl, rfl, tw_2, fm_2⟩) ⟨(Nat.le_of_ble_eq_true rfl), (Nat.le_of_ble_eq_true rfl)⟩ dX3_dirt_6
  · have hz1 : inN x ((ar 0) 1) = false := hz1
    refine W.eq (g2 := F0 m_ 6 ls (.int (nI 0) :: [])) rfl ?_
    obtain ⟨t0_3, -, ta0_3, ta1_3, ta2_3, ta3_3, ta4_3, ta5_3, ta6_3, ta7_3, -, -⟩ := id tv1
    have fm_3 : Fm σ σ1 m A := (Fm.refl).trans fv1
    have tw_3 : IsTw g σ1 m A (va_up iv 17 (nI 1)) wd ar rb := ⟨t0_3, tb0, ta0_3, ta1_3, ta2_3, ta3_3, ta4_3, ta5_3, ta6_3, ta7_3, tbb, tii⟩
    subst hQ
    exact s_reti (v := (nI 0)) F hW rfl (Or.inr ⟨hz1, rfl, tw_3, fm_3⟩) ⟨(Nat.le_of_ble_eq_true rfl), (Nat.le_of_ble_eq_true rfl)⟩ dX3_dirt_6
set_option maxHeartbeats 4000000 in
theorem k_X3_litresThrough (g : Gh) (l : Launch) (σ : Sto) (m : Nat) (A : Nat → Nat) (iv : Nat → Int32) (wd : Nat) (ar : Nat → Nat → Nat) (rb : Nat → Bool) (x : Int32) (hw : IsTw g σ m A iv wd ar rb) (hI : Inv (ar 0)) : Ct g l yX3_litresThrough cX3_litresThrough 2 (some .int) ({ frames := 3, cells := 0, slots := 0, locals := 65 } : Room) [.ref m, .int x] σ (fun r σ' => (∃ i, i < ar 0 1 ∧ x = nI i ∧ r = some (.int (nI (pL (ar 0) i))) ∧ IsTw g σ' m A (va_up iv 17 (nI 0)) wd ar rb ∧ Fm σ σ' m A) ∨ (inN x (ar 0 1) = false ∧ r = some (.int (nI 0)) ∧ IsTw g σ' m A (va_up iv 17 (nI 1)) wd ar rb ∧ Fm σ σ' m A)) (nox) := by
  refine Ct.body (by decide) (Nat.le_of_ble_eq_true rfl) ?_
  intro p_ e_ s_ m_ args_ below_ meth_ c_ ls H locs Q F hW hl hQ
  have hl : lv_has ls 2 [(0, .ref m), (1, .int x)] := hl
  obtain ⟨t0, tb0, ta0, ta1, ta2, ta3, ta4, ta5, ta6, ta7, tbb, tii⟩ := id hw
  have hv0 := hI.1
  have hv1 := hI.2.1
  refine lv_aload_n F.x F.cd dX3_litresThrough_0 rfl (lv_at hl 0 rfl) ?_
  refine lv_iload_n F.x F.cd dX3_litresThrough_1 rfl (lv_at hl 1 rfl) ?_
  refine lv_bipush (v := (nI 6)) F.x F.cd dX3_litresThrough_2 (by decide) ?_
  refine s_callV (As := [.int x, .int (nI 6)]) (rest := []) (C := RX3) (T := TX3) (N := 18) (n := 2) F hW (k_X3_ofPipe g l σ m A _ _ _ _ x 6 hw hI (by omega)) (t0) rfl q2498 q2500 qs51 q79 q2501 rfl (by decide +kernel) rfl ⟨⟨Nat.le_of_ble_eq_true rfl, Nat.le_of_ble_eq_true rfl⟩, ⟨(Nat.le_of_ble_eq_true rfl), (Nat.le_of_ble_eq_true rfl)⟩⟩ (Nat.le_of_ble_eq_true rfl) hl.1 rfl dX3_litresThrough_4 cX_no (fun r1 σ1 H locs hp1 hW => ?_)
  rcases hp1 with ⟨i1, hi1, rfl, rfl, tv1, fv1⟩ | ⟨hz1, rfl, tv1, fv1⟩
  · have hi1 : i1 < (ar 0) 1 := hi1
    refine W.eq (g2 := F0 m_ 7 ls (.int (nI (pL (ar 0) i1)) :: [])) rfl ?_
    obtain ⟨t0_2, -, ta0_2, ta1_2, ta2_2, ta3_2, ta4_2, ta5_2, ta6_2, ta7_2, -, -⟩ := id tv1
    have fm_2 : Fm σ σ1 m A := (Fm.refl).trans fv1
    have tw_2 : IsTw g σ1 m A (va_up iv 17 (nI 0)) wd ar rb := ⟨t0_2, tb0, ta0_2, ta1_2, ta2_2, ta3_2, ta4_2, ta5_2, ta6_2, ta7_2, tbb, tii⟩
    subst hQ
    exact s_reti (v := (nI (pL (ar 0) i1))) F hW rfl (Or.inl ⟨i1, hi1, rfl, rfl, tw_2, fm_2⟩) ⟨(Nat.le_of_ble_eq_true rfl), (Nat.le_of_ble_eq_true rfl)⟩ dX3_litresThrough_7
  · have hz1 : inN x ((ar 0) 1) = false := hz1
    refine W.eq (g2 := F0 m_ 7 ls (.int (nI 0) :: [])) rfl ?_
    obtain ⟨t0_3, -, ta0_3, ta1_3, ta2_3, ta3_3, ta4_3, ta5_3, ta6_3, ta7_3, -, -⟩ := id tv1
    have fm_3 : Fm σ σ1 m A := (Fm.refl).trans fv1
    have tw_3 : IsTw g σ1 m A (va_up iv 17 (nI 1)) wd ar rb := ⟨t0_3, tb0, ta0_3, ta1_3, ta2_3, ta3_3, ta4_3, ta5_3, ta6_3, ta7_3, tbb, tii⟩
    subst hQ
    exact s_reti (v := (nI 0)) F hW rfl (Or.inr ⟨hz1, rfl, tw_3, fm_3⟩) ⟨(Nat.le_of_ble_eq_true rfl), (Nat.le_of_ble_eq_true rfl)⟩ dX3_litresThrough_7
set_option maxHeartbeats 4000000 in
theorem k_X3_isOpen (g : Gh) (l : Launch) (σ : Sto) (m : Nat) (A : Nat → Nat) (iv : Nat → Int32) (wd : Nat) (ar : Nat → Nat → Nat) (rb : Nat → Bool) (x : Int32) (hw : IsTw g σ m A iv wd ar rb) (hI : Inv (ar 0)) : Ct g l yX3_isOpen cX3_isOpen 3 (some .boolean) ({ frames := 3, cells := 0, slots := 0, locals := 65 } : Room) [.ref m, .int x] σ (fun r σ' => (∃ i, i < ar 0 1 ∧ x = nI i ∧ r = some (.int (bI (opv (ar 0) i))) ∧ IsTw g σ' m A (va_up iv 17 (nI 0)) wd ar rb ∧ Fm σ σ' m A) ∨ (inN x (ar 0 1) = false ∧ r = some (.int (bI false)) ∧ IsTw g σ' m A (va_up iv 17 (nI 1)) wd ar rb ∧ Fm σ σ' m A)) (nox) := by
  refine Ct.body (by decide) (Nat.le_of_ble_eq_true rfl) ?_
  intro p_ e_ s_ m_ args_ below_ meth_ c_ ls H locs Q F hW hl hQ
  have hl : lv_has ls 3 [(0, .ref m), (1, .int x)] := hl
  obtain ⟨t0, tb0, ta0, ta1, ta2, ta3, ta4, ta5, ta6, ta7, tbb, tii⟩ := id hw
  have hv0 := hI.1
  have hv1 := hI.2.1
  refine lv_aload_n F.x F.cd dX3_isOpen_0 rfl (lv_at hl 0 rfl) ?_
  refine lv_iload_n F.x F.cd dX3_isOpen_1 rfl (lv_at hl 1 rfl) ?_
  refine lv_iconst (v := (nI 3)) F.x F.cd dX3_isOpen_2 (by decide) ?_
  refine s_callV (As := [.int x, .int (nI 3)]) (rest := []) (C := RX3) (T := TX3) (N := 18) (n := 2) F hW (k_X3_ofPipe g l σ m A _ _ _ _ x 3 hw hI (by omega)) (t0) rfl q2498 q2500 qs51 q79 q2501 rfl (by decide +kernel) rfl ⟨⟨Nat.le_of_ble_eq_true rfl, Nat.le_of_ble_eq_true rfl⟩, ⟨(Nat.le_of_ble_eq_true rfl), (Nat.le_of_ble_eq_true rfl)⟩⟩ (Nat.le_of_ble_eq_true rfl) hl.1 rfl dX3_isOpen_3 cX_no (fun r1 σ1 H locs hp1 hW => ?_)
  rcases hp1 with ⟨i1, hi1, rfl, rfl, tv1, fv1⟩ | ⟨hz1, rfl, tv1, fv1⟩
  · have hi1 : i1 < (ar 0) 1 := hi1
    refine W.eq (g2 := F0 m_ 6 ls (.int (nI (pV (ar 0) i1)) :: [])) rfl ?_
    obtain ⟨t0_2, -, ta0_2, ta1_2, ta2_2, ta3_2, ta4_2, ta5_2, ta6_2, ta7_2, -, -⟩ := id tv1
    have fm_2 : Fm σ σ1 m A := (Fm.refl).trans fv1
    have tw_2 : IsTw g σ1 m A (va_up iv 17 (nI 0)) wd ar rb := ⟨t0_2, tb0, ta0_2, ta1_2, ta2_2, ta3_2, ta4_2, ta5_2, ta6_2, ta7_2, tbb, tii⟩
    refine lv_istore_n (lv' := [(2, .int (nI (pV (ar 0) i1))), (0, .ref m), (1, .int (nI i1))]) F.x F.cd dX3_isOpen_6 rfl hl (by decide) rfl (fun ls hl => ?_)
    have hqq := hI.pp hi1
    obtain ⟨hqa, hqb, hqab, hqm, hqv, hqr, hqd⟩ := hqq
    refine lv_aload_n F.x F.cd dX3_isOpen_7 rfl (lv_at hl 1 rfl) ?_
    refine s_get F hW (ci := 7) (C := RX3) (T := TX3) (N := 18) (v := .int (nI 0)) (t0_2) rfl in_X3 17 (by decide) q2296 (fun _ h9 => h9) rfl dX3_isOpen_8 ?_
    refine n_if_ne (a := 0) (tgt := 30) F (by omega) dX3_isOpen_11 (by decide) (fun c_11 => absurd (by decide) c_11) (fun c_11 => ?_)
    refine lv_iload_n F.x F.cd dX3_isOpen_14 rfl (lv_at hl 0 rfl) ?_
    refine n_if_le (a := pV (ar 0) i1) (tgt := 30) F (by omega) dX3_isOpen_15 (by decide) (fun c_15 => ?_) (fun c_15 => ?_)
    · refine lv_iconst (v := (nI 0)) F.x F.cd dX3_isOpen_30 (by decide) ?_
      subst hQ
      exact s_reti (v := (nI 0)) F hW (by decide) (Or.inl ⟨i1, hi1, rfl, by rw [show opv (ar 0) i1 = false by (simp [opv, opn]; omega)]; rfl, tw_2, fm_2⟩) ⟨(Nat.le_of_ble_eq_true rfl), (Nat.le_of_ble_eq_true rfl)⟩ dX3_isOpen_31
    · refine lv_aload_n F.x F.cd dX3_isOpen_18 rfl (lv_at hl 1 rfl) ?_
      refine lv_iload_n F.x F.cd dX3_isOpen_19 rfl (lv_at hl 2 rfl) ?_
      refine s_callV (As := [.int (nI i1)]) (rest := []) (C := RX3) (T := TX3) (N := 18) (n := 1) F hW (k_X3_goes g l σ1 m A _ _ _ _ i1 tw_2 hI (by omega)) (t0_2) rfl q2434 q2436 qs48 q79 q2437 rfl (by decide +kernel) rfl ⟨⟨Nat.le_of_ble_eq_true rfl, Nat.le_of_ble_eq_true rfl⟩, ⟨(Nat.le_of_ble_eq_true rfl), (Nat.le_of_ble_eq_true rfl)⟩⟩ (Nat.le_of_ble_eq_true rfl) hl.1 rfl dX3_isOpen_20 cX_no (fun r3 σ3 H locs hp3 hW => ?_)
      obtain ⟨rfl, hs3⟩ := hp3
      rw [hs3] at hW
      refine W.eq (g2 := F0 m_ 23 ls (.int (bI (opv (ar 0) i1)) :: [])) rfl ?_
      refine b_if_eq (b := (opv (ar 0) i1)) (tgt := 30) F dX3_isOpen_23 (by decide) (fun c_23 => ?_) (fun c_23 => ?_)
      · refine lv_iconst (v := (nI 0)) F.x F.cd dX3_isOpen_30 (by decide) ?_
        subst hQ
        exact s_reti (v := (nI 0)) F hW (by decide) (Or.inl ⟨i1, hi1, rfl, by rw [show opv (ar 0) i1 = false by exact c_23]; rfl, tw_2, fm_2⟩) ⟨(Nat.le_of_ble_eq_true rfl), (Nat.le_of_ble_eq_true rfl)⟩ dX3_isOpen_31
      · refine lv_iconst (v := (nI 1)) F.x F.cd dX3_isOpen_26 (by decide) ?_
        refine lv_goto (tgt := 31) F.x F.cd dX3_isOpen_27 (by decide) ?_
        subst hQ
        exact s_reti (v := (nI 1)) F hW (by decide) (Or.inl ⟨i1, hi1, rfl, by rw [show opv (ar 0) i1 = true by exact c_23]; rfl, tw_2, fm_2⟩) ⟨(Nat.le_of_ble_eq_true rfl), (Nat.le_of_ble_eq_true rfl)⟩ dX3_isOpen_31
  · have hz1 : inN x ((ar 0) 1) = false := hz1
    refine W.eq (g2 := F0 m_ 6 ls (.int (nI 0) :: [])) rfl ?_
    obtain ⟨t0_4, -, ta0_4, ta1_4, ta2_4, ta3_4, ta4_4, ta5_4, ta6_4, ta7_4, -, -⟩ := id tv1
    have fm_4 : Fm σ σ1 m A := (Fm.refl).trans fv1
    have tw_4 : IsTw g σ1 m A (va_up iv 17 (nI 1)) wd ar rb := ⟨t0_4, tb0, ta0_4, ta1_4, ta2_4, ta3_4, ta4_4, ta5_4, ta6_4, ta7_4, tbb, tii⟩
    refine lv_istore_n (lv' := [(2, .int (nI 0)), (0, .ref m), (1, .int x)]) F.x F.cd dX3_isOpen_6 rfl hl (by decide) rfl (fun ls hl => ?_)
    refine lv_aload_n F.x F.cd dX3_isOpen_7 rfl (lv_at hl 1 rfl) ?_
    refine s_get F hW (ci := 7) (C := RX3) (T := TX3) (N := 18) (v := .int (nI 1)) (t0_4) rfl in_X3 17 (by decide) q2296 (fun _ h9 => h9) rfl dX3_isOpen_8 ?_
    refine n_if_ne (a := 1) (tgt := 30) F (by omega) dX3_isOpen_11 (by decide) (fun c_11 => ?_) (fun c_11 => absurd c_11 (by decide))
    refine lv_iconst (v := (nI 0)) F.x F.cd dX3_isOpen_30 (by decide) ?_
    subst hQ
    exact s_reti (v := (nI 0)) F hW (by decide) (Or.inr ⟨hz1, rfl, tw_4, fm_4⟩) ⟨(Nat.le_of_ble_eq_true rfl), (Nat.le_of_ble_eq_true rfl)⟩ dX3_isOpen_31
set_option maxHeartbeats 4000000 in
theorem k_X3_flow (g : Gh) (l : Launch) (σ : Sto) (m : Nat) (A : Nat → Nat) (iv : Nat → Int32) (wd : Nat) (ar : Nat → Nat → Nat) (rb : Nat → Bool) (x : Int32) (hw : IsTw g σ m A iv wd ar rb) (hI : Inv (ar 0)) : Ct g l yX3_flow cX3_flow 3 (some .int) ({ frames := 3, cells := 0, slots := 0, locals := 69 } : Room) [.ref m, .int x] σ (fun r σ' => (∃ i, i < ar 0 1 ∧ x = nI i ∧ r = some (.int (lits (ar 0) i)) ∧ IsTw g σ' m A (va_up iv 17 (nI 0)) wd ar rb ∧ Fm σ σ' m A) ∨ (inN x (ar 0 1) = false ∧ r = some (.int (nI 0)) ∧ IsTw g σ' m A (va_up iv 17 (nI 1)) wd ar rb ∧ Fm σ σ' m A)) (nox) := by
  refine Ct.body (by decide) (Nat.le_of_ble_eq_true rfl) ?_
  intro p_ e_ s_ m_ args_ below_ meth_ c_ ls H locs Q F hW hl hQ
  have hl : lv_has ls 3 [(0, .ref m), (1, .int x)] := hl
  obtain ⟨t0, tb0, ta0, ta1, ta2, ta3, ta4, ta5, ta6, ta7, tbb, tii⟩ := id hw
  have hv0 := hI.1
  have hv1 := hI.2.1
  refine lv_aload_n F.x F.cd dX3_flow_0 rfl (lv_at hl 0 rfl) ?_
  refine lv_iload_n F.x F.cd dX3_flow_1 rfl (lv_at hl 1 rfl) ?_
  refine lv_iconst (v := (nI 0)) F.x F.cd dX3_flow_2 (by decide) ?_
  refine s_callV (As := [.int x, .int (nI 0)]) (rest := []) (C := RX3) (T := TX3) (N := 18) (n := 2) F hW (k_X3_ofPipe g l σ m A _ _ _ _ x 0 hw hI (by omega)) (t0) rfl q2498 q2500 qs51 q79 q2501 rfl (by decide +kernel) rfl ⟨⟨Nat.le_of_ble_eq_true rfl, Nat.le_of_ble_eq_true rfl⟩, ⟨(Nat.le_of_ble_eq_true rfl), (Nat.le_of_ble_eq_true rfl)⟩⟩ (Nat.le_of_ble_eq_true rfl) hl.1 rfl dX3_flow_3 cX_no (fun r1 σ1 H locs hp1 hW => ?_)
  rcases hp1 with ⟨i1, hi1, rfl, rfl, tv1, fv1⟩ | ⟨hz1, rfl, tv1, fv1⟩
  · have hi1 : i1 < (ar 0) 1 := hi1
    refine W.eq (g2 := F0 m_ 6 ls (.int (nI (pA (ar 0) i1)) :: [])) rfl ?_
    obtain ⟨t0_2, -, ta0_2, ta1_2, ta2_2, ta3_2, ta4_2, ta5_2, ta6_2, ta7_2, -, -⟩ := id tv1
    have fm_2 : Fm σ σ1 m A := (Fm.refl).trans fv1
    have tw_2 : IsTw g σ1 m A (va_up iv 17 (nI 0)) wd ar rb := ⟨t0_2, tb0, ta0_2, ta1_2, ta2_2, ta3_2, ta4_2, ta5_2, ta6_2, ta7_2, tbb, tii⟩
    refine lv_istore_n (lv' := [(2, .int (nI (pA (ar 0) i1))), (0, .ref m), (1, .int (nI i1))]) F.x F.cd dX3_flow_6 rfl hl (by decide) rfl (fun ls hl => ?_)
    have hqq := hI.pp hi1
    obtain ⟨hqa, hqb, hqab, hqm, hqv, hqr, hqd⟩ := hqq
    refine lv_aload_n F.x F.cd dX3_flow_7 rfl (lv_at hl 1 rfl) ?_
    refine s_get F hW (ci := 7) (C := RX3) (T := TX3) (N := 18) (v := .int (nI 0)) (t0_2) rfl in_X3 17 (by decide) q2296 (fun _ h9 => h9) rfl dX3_flow_8 ?_
    refine n_if_ne (a := 0) (tgt := 26) F (by omega) dX3_flow_11 (by decide) (fun c_11 => absurd (by decide) c_11) (fun c_11 => ?_)
    refine lv_iload_n F.x F.cd dX3_flow_14 rfl (lv_at hl 0 rfl) ?_
    refine n_if_lt (a := pA (ar 0) i1) (tgt := 26) F (by omega) dX3_flow_15 (by decide) ?_
    refine lv_aload_n F.x F.cd dX3_flow_18 rfl (lv_at hl 1 rfl) ?_
    refine lv_iload_n F.x F.cd dX3_flow_19 rfl (lv_at hl 2 rfl) ?_
    refine s_callV (As := [.int (nI i1)]) (rest := []) (C := RX3) (T := TX3) (N := 18) (n := 1) F hW (k_X3_flows g l σ1 m A _ _ _ _ i1 tw_2 hI (by omega)) (t0_2) rfl q2430 q2432 qs47 q79 q2433 rfl (by decide +kernel) rfl ⟨⟨Nat.le_of_ble_eq_true rfl, Nat.le_of_ble_eq_true rfl⟩, ⟨(Nat.le_of_ble_eq_true rfl), (Nat.le_of_ble_eq_true rfl)⟩⟩ (Nat.le_of_ble_eq_true rfl) hl.1 rfl dX3_flow_20 cX_no (fun r3 σ3 H locs hp3 hW => ?_)
    obtain ⟨rfl, hs3⟩ := hp3
    rw [hs3] at hW
    refine W.eq (g2 := F0 m_ 23 ls (.int (lits (ar 0) i1) :: [])) rfl ?_
    refine lv_goto (tgt := 27) F.x F.cd dX3_flow_23 (by decide) ?_
    subst hQ
    exact s_reti (v := (lits (ar 0) i1)) F hW rfl (Or.inl ⟨i1, hi1, rfl, rfl, tw_2, fm_2⟩) ⟨(Nat.le_of_ble_eq_true rfl), (Nat.le_of_ble_eq_true rfl)⟩ dX3_flow_27
  · have hz1 : inN x ((ar 0) 1) = false := hz1
    refine W.eq (g2 := F0 m_ 6 ls (.int (nI 0) :: [])) rfl ?_
    obtain ⟨t0_4, -, ta0_4, ta1_4, ta2_4, ta3_4, ta4_4, ta5_4, ta6_4, ta7_4, -, -⟩ := id tv1
    have fm_4 : Fm σ σ1 m A := (Fm.refl).trans fv1
    have tw_4 : IsTw g σ1 m A (va_up iv 17 (nI 1)) wd ar rb := ⟨t0_4, tb0, ta0_4, ta1_4, ta2_4, ta3_4, ta4_4, ta5_4, ta6_4, ta7_4, tbb, tii⟩
    refine lv_istore_n (lv' := [(2, .int (nI 0)), (0, .ref m), (1, .int x)]) F.x F.cd dX3_flow_6 rfl hl (by decide) rfl (fun ls hl => ?_)
    refine lv_aload_n F.x F.cd dX3_flow_7 rfl (lv_at hl 1 rfl) ?_
    refine s_get F hW (ci := 7) (C := RX3) (T := TX3) (N := 18) (v := .int (nI 1)) (t0_4) rfl in_X3 17 (by decide) q2296 (fun _ h9 => h9) rfl dX3_flow_8 ?_
    refine n_if_ne (a := 1) (tgt := 26) F (by omega) dX3_flow_11 (by decide) (fun c_11 => ?_) (fun c_11 => absurd c_11 (by decide))
    refine lv_iconst (v := (nI 0)) F.x F.cd dX3_flow_26 (by decide) ?_
    subst hQ
    exact s_reti (v := (nI 0)) F hW rfl (Or.inr ⟨hz1, rfl, tw_4, fm_4⟩) ⟨(Nat.le_of_ble_eq_true rfl), (Nat.le_of_ble_eq_true rfl)⟩ dX3_flow_27
set_option maxHeartbeats 4000000 in
theorem k_X3_tankCount (g : Gh) (l : Launch) (σ : Sto) (m : Nat) (A : Nat → Nat) (iv : Nat → Int32) (wd : Nat) (ar : Nat → Nat → Nat) (rb : Nat → Bool)  (hw : IsTw g σ m A iv wd ar rb)  : Ct g l yX3_tankCount cX3_tankCount 1 (some .int) ({ frames := 0, cells := 0, slots := 0, locals := 0 } : Room) [.ref m] σ (fun r σ' => r = some (.int (nI (ar 0 0))) ∧ IsTw g σ' m A (va_up iv 17 (nI 0)) wd ar rb ∧ Fm σ σ' m A) (nox) := by
  refine Ct.body (by decide) (Nat.le_of_ble_eq_true rfl) ?_
  intro p_ e_ s_ m_ args_ below_ meth_ c_ ls H locs Q F hW hl hQ
  have hl : lv_has ls 1 [(0, .ref m)] := hl
  obtain ⟨t0, tb0, ta0, ta1, ta2, ta3, ta4, ta5, ta6, ta7, tbb, tii⟩ := id hw
  refine lv_aload_n F.x F.cd dX3_tankCount_0 rfl (lv_at hl 0 rfl) ?_
  refine lv_iconst (v := (nI 0)) F.x F.cd dX3_tankCount_1 (by decide) ?_
  refine s_put F hW (ci := 7) (C := RX3) (T := TX3) (N := 18) (v := .int (nI 0)) (ty := .int) (t0) (tb0) rfl in_X3 tyX3_ok nmX3 17 (by decide) q2296 (fun _ h9 => h9) rfl (by decide +kernel) rfl rfl (Nat.le_of_ble_eq_true rfl) dX3_tankCount_2 (fun H locs hW => ?_)
  obtain ⟨σ2, hσ2⟩ : ∃ z, z = sset σ m (.inr (7, [.ref (A 0), .ref (A 1), .ref (A 2), .int (iv 3), .ref (A 3), .int (iv 5), .ref (A 4), .ref (A 5), .int (iv 8), .ref (A 6), .int (iv 10), .int (iv 11), .ref wd, .ref (A 7), .int (iv 14), .int (iv 15), .int (iv 16), .int (nI 0)])) := ⟨_, rfl⟩
  have hW : Hl g σ2 H locs := by rw [hσ2]; exact hW
  have w2 : σ2 m = some (.inr (7, [.ref (A 0), .ref (A 1), .ref (A 2), .int (iv 3), .ref (A 3), .int (iv 5), .ref (A 4), .ref (A 5), .int (iv 8), .ref (A 6), .int (iv 10), .int (iv 11), .ref wd, .ref (A 7), .int (iv 14), .int (iv 15), .int (iv 16), .int (nI 0)])) := by rw [hσ2]; exact sset_eq
  have f3 : σ2 (A 0) = some (eI g 0 114 (fun x9 => nI ((ar 0) x9))) := by rw [hσ2, sset_ne (sto_ne t0 ta0 (by simp))]; exact ta0
  have f4 : σ2 (A 1) = some (eI g 0 114 (fun x9 => nI ((ar 1) x9))) := by rw [hσ2, sset_ne (sto_ne t0 ta1 (by simp))]; exact ta1
  have f5 : σ2 (A 2) = some (eI g 0 912 (fun x9 => nI ((ar 2) x9))) := by rw [hσ2, sset_ne (sto_ne t0 ta2 (by simp))]; exact ta2
  have f6 : σ2 (A 3) = some (eI g 0 114 (fun x9 => nI ((ar 3) x9))) := by rw [hσ2, sset_ne (sto_ne t0 ta3 (by simp))]; exact ta3
  have f7 : σ2 (A 4) = some (eI g 2 2048 (fun x9 => bI (rb x9))) := by rw [hσ2, sset_ne (sto_ne t0 ta4 (by simp))]; exact ta4
  have f8 : σ2 (A 5) = some (eI g 3 60 (fun x9 => nI ((ar 5) x9))) := by rw [hσ2, sset_ne (sto_ne t0 ta5 (by simp))]; exact ta5
  have f9 : σ2 (A 6) = some (eI g 3 60 (fun x9 => nI ((ar 6) x9))) := by rw [hσ2, sset_ne (sto_ne t0 ta6 (by simp))]; exact ta6
  have f10 : σ2 (A 7) = some (eI g 0 3 (fun x9 => nI ((ar 7) x9))) := by rw [hσ2, sset_ne (sto_ne t0 ta7 (by simp))]; exact ta7
  refine lv_aload_n F.x F.cd dX3_tankCount_5 rfl (lv_at hl 0 rfl) ?_
  refine s_get F hW (ci := 7) (C := RX3) (T := TX3) (N := 18) (v := .ref (A 0)) (w2) rfl in_X3 0 (by decide) q2279 (fun _ h9 => h9) rfl dX3_tankCount_6 ?_
  refine lv_iconst (v := (nI 0)) F.x F.cd dX3_tankCount_9 (by decide) ?_
  refine n_iald (i := 0) (n := 114) (f := (fun x9 => nI ((ar 0) x9))) (x := (nI ((ar 0) 0))) F hW (f3) (by omega) (by omega) (rfl) dX3_tankCount_10 ?_
  have tw11 : IsTw g σ2 m A (va_up iv 17 (nI 0)) wd ar rb := ⟨w2, tb0, f3, f4, f5, f6, f7, f8, f9, f10, tbb, tii⟩
  have fm11 : Fm σ σ2 m A := by rw [hσ2]; exact (Fm.refl).setM
  subst hQ
  exact s_reti (v := (nI ((ar 0) 0))) F hW rfl (⟨rfl, tw11, fm11⟩) ⟨(Nat.le_of_ble_eq_true rfl), (Nat.le_of_ble_eq_true rfl)⟩ dX3_tankCount_11
set_option maxHeartbeats 4000000 in
theorem k_X3_pipeCount (g : Gh) (l : Launch) (σ : Sto) (m : Nat) (A : Nat → Nat) (iv : Nat → Int32) (wd : Nat) (ar : Nat → Nat → Nat) (rb : Nat → Bool)  (hw : IsTw g σ m A iv wd ar rb)  : Ct g l yX3_pipeCount cX3_pipeCount 1 (some .int) ({ frames := 0, cells := 0, slots := 0, locals := 0 } : Room) [.ref m] σ (fun r σ' => r = some (.int (nI (ar 0 1))) ∧ IsTw g σ' m A (va_up iv 17 (nI 0)) wd ar rb ∧ Fm σ σ' m A) (nox) := by
  refine Ct.body (by decide) (Nat.le_of_ble_eq_true rfl) ?_
  intro p_ e_ s_ m_ args_ below_ meth_ c_ ls H locs Q F hW hl hQ
  have hl : lv_has ls 1 [(0, .ref m)] := hl
  obtain ⟨t0, tb0, ta0, ta1, ta2, ta3, ta4, ta5, ta6, ta7, tbb, tii⟩ := id hw
  refine lv_aload_n F.x F.cd dX3_pipeCount_0 rfl (lv_at hl 0 rfl) ?_
  refine lv_iconst (v := (nI 0)) F.x F.cd dX3_pipeCount_1 (by decide) ?_
  refine s_put F hW (ci := 7) (C := RX3) (T := TX3) (N := 18) (v := .int (nI 0)) (ty := .int) (t0) (tb0) rfl in_X3 tyX3_ok nmX3 17 (by decide) q2296 (fun _ h9 => h9) rfl (by decide +kernel) rfl rfl (Nat.le_of_ble_eq_true rfl) dX3_pipeCount_2 (fun H locs hW => ?_)
  obtain ⟨σ2, hσ2⟩ : ∃ z, z = sset σ m (.inr (7, [.ref (A 0), .ref (A 1), .ref (A 2), .int (iv 3), .ref (A 3), .int (iv 5), .ref (A 4), .ref (A 5), .int (iv 8), .ref (A 6), .int (iv 10), .int (iv 11), .ref wd, .ref (A 7), .int (iv 14), .int (iv 15), .int (iv 16), .int (nI 0)])) := ⟨_, rfl⟩
  have hW : Hl g σ2 H locs := by rw [hσ2]; exact hW
  have w2 : σ2 m = some (.inr (7, [.ref (A 0), .ref (A 1), .ref (A 2), .int (iv 3), .ref (A 3), .int (iv 5), .ref (A 4), .ref (A 5), .int (iv 8), .ref (A 6), .int (iv 10), .int (iv 11), .ref wd, .ref (A 7), .int (iv 14), .int (iv 15), .int (iv 16), .int (nI 0)])) := by rw [hσ2]; exact sset_eq
  have f3 : σ2 (A 0) = some (eI g 0 114 (fun x9 => nI ((ar 0) x9))) := by rw [hσ2, sset_ne (sto_ne t0 ta0 (by simp))]; exact ta0
  have f4 : σ2 (A 1) = some (eI g 0 114 (fun x9 => nI ((ar 1) x9))) := by rw [hσ2, sset_ne (sto_ne t0 ta1 (by simp))]; exact ta1
  have f5 : σ2 (A 2) = some (eI g 0 912 (fun x9 => nI ((ar 2) x9))) := by rw [hσ2, sset_ne (sto_ne t0 ta2 (by simp))]; exact ta2
  have f6 : σ2 (A 3) = some (eI g 0 114 (fun x9 => nI ((ar 3) x9))) := by rw [hσ2, sset_ne (sto_ne t0 ta3 (by simp))]; exact ta3
  have f7 : σ2 (A 4) = some (eI g 2 2048 (fun x9 => bI (rb x9))) := by rw [hσ2, sset_ne (sto_ne t0 ta4 (by simp))]; exact ta4
  have f8 : σ2 (A 5) = some (eI g 3 60 (fun x9 => nI ((ar 5) x9))) := by rw [hσ2, sset_ne (sto_ne t0 ta5 (by simp))]; exact ta5
  have f9 : σ2 (A 6) = some (eI g 3 60 (fun x9 => nI ((ar 6) x9))) := by rw [hσ2, sset_ne (sto_ne t0 ta6 (by simp))]; exact ta6
  have f10 : σ2 (A 7) = some (eI g 0 3 (fun x9 => nI ((ar 7) x9))) := by rw [hσ2, sset_ne (sto_ne t0 ta7 (by simp))]; exact ta7
  refine lv_aload_n F.x F.cd dX3_pipeCount_5 rfl (lv_at hl 0 rfl) ?_
  refine s_get F hW (ci := 7) (C := RX3) (T := TX3) (N := 18) (v := .ref (A 0)) (w2) rfl in_X3 0 (by decide) q2279 (fun _ h9 => h9) rfl dX3_pipeCount_6 ?_
  refine lv_iconst (v := (nI 1)) F.x F.cd dX3_pipeCount_9 (by decide) ?_
  refine n_iald (i := 1) (n := 114) (f := (fun x9 => nI ((ar 0) x9))) (x := (nI ((ar 0) 1))) F hW (f3) (by omega) (by omega) (rfl) dX3_pipeCount_10 ?_
  have tw11 : IsTw g σ2 m A (va_up iv 17 (nI 0)) wd ar rb := ⟨w2, tb0, f3, f4, f5, f6, f7, f8, f9, f10, tbb, tii⟩
  have fm11 : Fm σ σ2 m A := by rw [hσ2]; exact (Fm.refl).setM
  subst hQ
  exact s_reti (v := (nI ((ar 0) 1))) F hW rfl (⟨rfl, tw11, fm11⟩) ⟨(Nat.le_of_ble_eq_true rfl), (Nat.le_of_ble_eq_true rfl)⟩ dX3_pipeCount_11
set_option maxHeartbeats 4000000 in
theorem k_X3_time (g : Gh) (l : Launch) (σ : Sto) (m : Nat) (A : Nat → Nat) (iv : Nat → Int32) (wd : Nat) (ar : Nat → Nat → Nat) (rb : Nat → Bool)  (hw : IsTw g σ m A iv wd ar rb)  : Ct g l yX3_time cX3_time 1 (some .int) ({ frames := 0, cells := 0, slots := 0, locals := 0 } : Room) [.ref m] σ (fun r σ' => r = some (.int (nI (ar 0 2))) ∧ IsTw g σ' m A (va_up iv 17 (nI 0)) wd ar rb ∧ Fm σ σ' m A) (nox) := by
  refine Ct.body (by decide) (Nat.le_of_ble_eq_true rfl) ?_
  intro p_ e_ s_ m_ args_ below_ meth_ c_ ls H locs Q F hW hl hQ
  have hl : lv_has ls 1 [(0, .ref m)] := hl
  obtain ⟨t0, tb0, ta0, ta1, ta2, ta3, ta4, ta5, ta6, ta7, tbb, tii⟩ := id hw
  refine lv_aload_n F.x F.cd dX3_time_0 rfl (lv_at hl 0 rfl) ?_
  refine lv_iconst (v := (nI 0)) F.x F.cd dX3_time_1 (by decide) ?_
  refine s_put F hW (ci := 7) (C := RX3) (T := TX3) (N := 18) (v := .int (nI 0)) (ty := .int) (t0) (tb0) rfl in_X3 tyX3_ok nmX3 17 (by decide) q2296 (fun _ h9 => h9) rfl (by decide +kernel) rfl rfl (Nat.le_of_ble_eq_true rfl) dX3_time_2 (fun H locs hW => ?_)
  obtain ⟨σ2, hσ2⟩ : ∃ z, z = sset σ m (.inr (7, [.ref (A 0), .ref (A 1), .ref (A 2), .int (iv 3), .ref (A 3), .int (iv 5), .ref (A 4), .ref (A 5), .int (iv 8), .ref (A 6), .int (iv 10), .int (iv 11), .ref wd, .ref (A 7), .int (iv 14), .int (iv 15), .int (iv 16), .int (nI 0)])) := ⟨_, rfl⟩
  have hW : Hl g σ2 H locs := by rw [hσ2]; exact hW
  have w2 : σ2 m = some (.inr (7, [.ref (A 0), .ref (A 1), .ref (A 2), .int (iv 3), .ref (A 3), .int (iv 5), .ref (A 4), .ref (A 5), .int (iv 8), .ref (A 6), .int (iv 10), .int (iv 11), .ref wd, .ref (A 7), .int (iv 14), .int (iv 15), .int (iv 16), .int (nI 0)])) := by rw [hσ2]; exact sset_eq
  have f3 : σ2 (A 0) = some (eI g 0 114 (fun x9 => nI ((ar 0) x9))) := by rw [hσ2, sset_ne (sto_ne t0 ta0 (by simp))]; exact ta0
  have f4 : σ2 (A 1) = some (eI g 0 114 (fun x9 => nI ((ar 1) x9))) := by rw [hσ2, sset_ne (sto_ne t0 ta1 (by simp))]; exact ta1
  have f5 : σ2 (A 2) = some (eI g 0 912 (fun x9 => nI ((ar 2) x9))) := by rw [hσ2, sset_ne (sto_ne t0 ta2 (by simp))]; exact ta2
  have f6 : σ2 (A 3) = some (eI g 0 114 (fun x9 => nI ((ar 3) x9))) := by rw [hσ2, sset_ne (sto_ne t0 ta3 (by simp))]; exact ta3
  have f7 : σ2 (A 4) = some (eI g 2 2048 (fun x9 => bI (rb x9))) := by rw [hσ2, sset_ne (sto_ne t0 ta4 (by simp))]; exact ta4
  have f8 : σ2 (A 5) = some (eI g 3 60 (fun x9 => nI ((ar 5) x9))) := by rw [hσ2, sset_ne (sto_ne t0 ta5 (by simp))]; exact ta5
  have f9 : σ2 (A 6) = some (eI g 3 60 (fun x9 => nI ((ar 6) x9))) := by rw [hσ2, sset_ne (sto_ne t0 ta6 (by simp))]; exact ta6
  have f10 : σ2 (A 7) = some (eI g 0 3 (fun x9 => nI ((ar 7) x9))) := by rw [hσ2, sset_ne (sto_ne t0 ta7 (by simp))]; exact ta7
  refine lv_aload_n F.x F.cd dX3_time_5 rfl (lv_at hl 0 rfl) ?_
  refine s_get F hW (ci := 7) (C := RX3) (T := TX3) (N := 18) (v := .ref (A 0)) (w2) rfl in_X3 0 (by decide) q2279 (fun _ h9 => h9) rfl dX3_time_6 ?_
  refine lv_iconst (v := (nI 2)) F.x F.cd dX3_time_9 (by decide) ?_
  refine n_iald (i := 2) (n := 114) (f := (fun x9 => nI ((ar 0) x9))) (x := (nI ((ar 0) 2))) F hW (f3) (by omega) (by omega) (rfl) dX3_time_10 ?_
  have tw11 : IsTw g σ2 m A (va_up iv 17 (nI 0)) wd ar rb := ⟨w2, tb0, f3, f4, f5, f6, f7, f8, f9, f10, tbb, tii⟩
  have fm11 : Fm σ σ2 m A := by rw [hσ2]; exact (Fm.refl).setM
  subst hQ
  exact s_reti (v := (nI ((ar 0) 2))) F hW rfl (⟨rfl, tw11, fm11⟩) ⟨(Nat.le_of_ble_eq_true rfl), (Nat.le_of_ble_eq_true rfl)⟩ dX3_time_11
set_option maxHeartbeats 4000000 in
theorem k_X3_pouredTotal (g : Gh) (l : Launch) (σ : Sto) (m : Nat) (A : Nat → Nat) (iv : Nat → Int32) (wd : Nat) (ar : Nat → Nat → Nat) (rb : Nat → Bool)  (hw : IsTw g σ m A iv wd ar rb)  : Ct g l yX3_pouredTotal cX3_pouredTotal 1 (some .int) ({ frames := 0, cells := 0, slots := 0, locals := 0 } : Room) [.ref m] σ (fun r σ' => r = some (.int (nI (ar 0 3))) ∧ IsTw g σ' m A (va_up iv 17 (nI 0)) wd ar rb ∧ Fm σ σ' m A) (nox) := by
  refine Ct.body (by decide) (Nat.le_of_ble_eq_true rfl) ?_
  intro p_ e_ s_ m_ args_ below_ meth_ c_ ls H locs Q F hW hl hQ
  have hl : lv_has ls 1 [(0, .ref m)] := hl
  obtain ⟨t0, tb0, ta0, ta1, ta2, ta3, ta4, ta5, ta6, ta7, tbb, tii⟩ := id hw
  refine lv_aload_n F.x F.cd dX3_pouredTotal_0 rfl (lv_at hl 0 rfl) ?_
  refine lv_iconst (v := (nI 0)) F.x F.cd dX3_pouredTotal_1 (by decide) ?_
  refine s_put F hW (ci := 7) (C := RX3) (T := TX3) (N := 18) (v := .int (nI 0)) (ty := .int) (t0) (tb0) rfl in_X3 tyX3_ok nmX3 17 (by decide) q2296 (fun _ h9 => h9) rfl (by decide +kernel) rfl rfl (Nat.le_of_ble_eq_true rfl) dX3_pouredTotal_2 (fun H locs hW => ?_)
  obtain ⟨σ2, hσ2⟩ : ∃ z, z = sset σ m (.inr (7, [.ref (A 0), .ref (A 1), .ref (A 2), .int (iv 3), .ref (A 3), .int (iv 5), .ref (A 4), .ref (A 5), .int (iv 8), .ref (A 6), .int (iv 10), .int (iv 11), .ref wd, .ref (A 7), .int (iv 14), .int (iv 15), .int (iv 16), .int (nI 0)])) := ⟨_, rfl⟩
  have hW : Hl g σ2 H locs := by rw [hσ2]; exact hW
  have w2 : σ2 m = some (.inr (7, [.ref (A 0), .ref (A 1), .ref (A 2), .int (iv 3), .ref (A 3), .int (iv 5), .ref (A 4), .ref (A 5), .int (iv 8), .ref (A 6), .int (iv 10), .int (iv 11), .ref wd, .ref (A 7), .int (iv 14), .int (iv 15), .int (iv 16), .int (nI 0)])) := by rw [hσ2]; exact sset_eq
  have f3 : σ2 (A 0) = some (eI g 0 114 (fun x9 => nI ((ar 0) x9))) := by rw [hσ2, sset_ne (sto_ne t0 ta0 (by simp))]; exact ta0
  have f4 : σ2 (A 1) = some (eI g 0 114 (fun x9 => nI ((ar 1) x9))) := by rw [hσ2, sset_ne (sto_ne t0 ta1 (by simp))]; exact ta1
  have f5 : σ2 (A 2) = some (eI g 0 912 (fun x9 => nI ((ar 2) x9))) := by rw [hσ2, sset_ne (sto_ne t0 ta2 (by simp))]; exact ta2
  have f6 : σ2 (A 3) = some (eI g 0 114 (fun x9 => nI ((ar 3) x9))) := by rw [hσ2, sset_ne (sto_ne t0 ta3 (by simp))]; exact ta3
  have f7 : σ2 (A 4) = some (eI g 2 2048 (fun x9 => bI (rb x9))) := by rw [hσ2, sset_ne (sto_ne t0 ta4 (by simp))]; exact ta4
  have f8 : σ2 (A 5) = some (eI g 3 60 (fun x9 => nI ((ar 5) x9))) := by rw [hσ2, sset_ne (sto_ne t0 ta5 (by simp))]; exact ta5
  have f9 : σ2 (A 6) = some (eI g 3 60 (fun x9 => nI ((ar 6) x9))) := by rw [hσ2, sset_ne (sto_ne t0 ta6 (by simp))]; exact ta6
  have f10 : σ2 (A 7) = some (eI g 0 3 (fun x9 => nI ((ar 7) x9))) := by rw [hσ2, sset_ne (sto_ne t0 ta7 (by simp))]; exact ta7
  refine lv_aload_n F.x F.cd dX3_pouredTotal_5 rfl (lv_at hl 0 rfl) ?_
  refine s_get F hW (ci := 7) (C := RX3) (T := TX3) (N := 18) (v := .ref (A 0)) (w2) rfl in_X3 0 (by decide) q2279 (fun _ h9 => h9) rfl dX3_pouredTotal_6 ?_
  refine lv_iconst (v := (nI 3)) F.x F.cd dX3_pouredTotal_9 (by decide) ?_
  refine n_iald (i := 3) (n := 114) (f := (fun x9 => nI ((ar 0) x9))) (x := (nI ((ar 0) 3))) F hW (f3) (by omega) (by omega) (rfl) dX3_pouredTotal_10 ?_
  have tw11 : IsTw g σ2 m A (va_up iv 17 (nI 0)) wd ar rb := ⟨w2, tb0, f3, f4, f5, f6, f7, f8, f9, f10, tbb, tii⟩
  have fm11 : Fm σ σ2 m A := by rw [hσ2]; exact (Fm.refl).setM
  subst hQ
  exact s_reti (v := (nI ((ar 0) 3))) F hW rfl (⟨rfl, tw11, fm11⟩) ⟨(Nat.le_of_ble_eq_true rfl), (Nat.le_of_ble_eq_true rfl)⟩ dX3_pouredTotal_11
set_option maxHeartbeats 4000000 in
theorem k_X3_drawnTotal (g : Gh) (l : Launch) (σ : Sto) (m : Nat) (A : Nat → Nat) (iv : Nat → Int32) (wd : Nat) (ar : Nat → Nat → Nat) (rb : Nat → Bool)  (hw : IsTw g σ m A iv wd ar rb)  : Ct g l yX3_drawnTotal cX3_drawnTotal 1 (some .int) ({ frames := 0, cells := 0, slots := 0, locals := 0 } : Room) [.ref m] σ (fun r σ' => r = some (.int (nI (ar 0 4))) ∧ IsTw g σ' m A (va_up iv 17 (nI 0)) wd ar rb ∧ Fm σ σ' m A) (nox) := by
  refine Ct.body (by decide) (Nat.le_of_ble_eq_true rfl) ?_
  intro p_ e_ s_ m_ args_ below_ meth_ c_ ls H locs Q F hW hl hQ
  have hl : lv_has ls 1 [(0, .ref m)] := hl
  obtain ⟨t0, tb0, ta0, ta1, ta2, ta3, ta4, ta5, ta6, ta7, tbb, tii⟩ := id hw
  refine lv_aload_n F.x F.cd dX3_drawnTotal_0 rfl (lv_at hl 0 rfl) ?_
  refine lv_iconst (v := (nI 0)) F.x F.cd dX3_drawnTotal_1 (by decide) ?_
  refine s_put F hW (ci := 7) (C := RX3) (T := TX3) (N := 18) (v := .int (nI 0)) (ty := .int) (t0) (tb0) rfl in_X3 tyX3_ok nmX3 17 (by decide) q2296 (fun _ h9 => h9) rfl (by decide +kernel) rfl rfl (Nat.le_of_ble_eq_true rfl) dX3_drawnTotal_2 (fun H locs hW => ?_)
  obtain ⟨σ2, hσ2⟩ : ∃ z, z = sset σ m (.inr (7, [.ref (A 0), .ref (A 1), .ref (A 2), .int (iv 3), .ref (A 3), .int (iv 5), .ref (A 4), .ref (A 5), .int (iv 8), .ref (A 6), .int (iv 10), .int (iv 11), .ref wd, .ref (A 7), .int (iv 14), .int (iv 15), .int (iv 16), .int (nI 0)])) := ⟨_, rfl⟩
  have hW : Hl g σ2 H locs := by rw [hσ2]; exact hW
  have w2 : σ2 m = some (.inr (7, [.ref (A 0), .ref (A 1), .ref (A 2), .int (iv 3), .ref (A 3), .int (iv 5), .ref (A 4), .ref (A 5), .int (iv 8), .ref (A 6), .int (iv 10), .int (iv 11), .ref wd, .ref (A 7), .int (iv 14), .int (iv 15), .int (iv 16), .int (nI 0)])) := by rw [hσ2]; exact sset_eq
  have f3 : σ2 (A 0) = some (eI g 0 114 (fun x9 => nI ((ar 0) x9))) := by rw [hσ2, sset_ne (sto_ne t0 ta0 (by simp))]; exact ta0
  have f4 : σ2 (A 1) = some (eI g 0 114 (fun x9 => nI ((ar 1) x9))) := by rw [hσ2, sset_ne (sto_ne t0 ta1 (by simp))]; exact ta1
  have f5 : σ2 (A 2) = some (eI g 0 912 (fun x9 => nI ((ar 2) x9))) := by rw [hσ2, sset_ne (sto_ne t0 ta2 (by simp))]; exact ta2
  have f6 : σ2 (A 3) = some (eI g 0 114 (fun x9 => nI ((ar 3) x9))) := by rw [hσ2, sset_ne (sto_ne t0 ta3 (by simp))]; exact ta3
  have f7 : σ2 (A 4) = some (eI g 2 2048 (fun x9 => bI (rb x9))) := by rw [hσ2, sset_ne (sto_ne t0 ta4 (by simp))]; exact ta4
  have f8 : σ2 (A 5) = some (eI g 3 60 (fun x9 => nI ((ar 5) x9))) := by rw [hσ2, sset_ne (sto_ne t0 ta5 (by simp))]; exact ta5
  have f9 : σ2 (A 6) = some (eI g 3 60 (fun x9 => nI ((ar 6) x9))) := by rw [hσ2, sset_ne (sto_ne t0 ta6 (by simp))]; exact ta6
  have f10 : σ2 (A 7) = some (eI g 0 3 (fun x9 => nI ((ar 7) x9))) := by rw [hσ2, sset_ne (sto_ne t0 ta7 (by simp))]; exact ta7
  refine lv_aload_n F.x F.cd dX3_drawnTotal_5 rfl (lv_at hl 0 rfl) ?_
  refine s_get F hW (ci := 7) (C := RX3) (T := TX3) (N := 18) (v := .ref (A 0)) (w2) rfl in_X3 0 (by decide) q2279 (fun _ h9 => h9) rfl dX3_drawnTotal_6 ?_
  refine lv_iconst (v := (nI 4)) F.x F.cd dX3_drawnTotal_9 (by decide) ?_
  refine n_iald (i := 4) (n := 114) (f := (fun x9 => nI ((ar 0) x9))) (x := (nI ((ar 0) 4))) F hW (f3) (by omega) (by omega) (rfl) dX3_drawnTotal_10 ?_
  have tw11 : IsTw g σ2 m A (va_up iv 17 (nI 0)) wd ar rb := ⟨w2, tb0, f3, f4, f5, f6, f7, f8, f9, f10, tbb, tii⟩
  have fm11 : Fm σ σ2 m A := by rw [hσ2]; exact (Fm.refl).setM
  subst hQ
  exact s_reti (v := (nI ((ar 0) 4))) F hW rfl (⟨rfl, tw11, fm11⟩) ⟨(Nat.le_of_ble_eq_true rfl), (Nat.le_of_ble_eq_true rfl)⟩ dX3_drawnTotal_11
set_option maxHeartbeats 4000000 in
theorem k_X3_spilledTotal (g : Gh) (l : Launch) (σ : Sto) (m : Nat) (A : Nat → Nat) (iv : Nat → Int32) (wd : Nat) (ar : Nat → Nat → Nat) (rb : Nat → Bool)  (hw : IsTw g σ m A iv wd ar rb)  : Ct g l yX3_spilledTotal cX3_spilledTotal 1 (some .int) ({ frames := 0, cells := 0, slots := 0, locals := 0 } : Room) [.ref m] σ (fun r σ' => r = some (.int (nI (ar 0 5))) ∧ IsTw g σ' m A (va_up iv 17 (nI 0)) wd ar rb ∧ Fm σ σ' m A) (nox) := by
  refine Ct.body (by decide) (Nat.le_of_ble_eq_true rfl) ?_
  intro p_ e_ s_ m_ args_ below_ meth_ c_ ls H locs Q F hW hl hQ
  have hl : lv_has ls 1 [(0, .ref m)] := hl
  obtain ⟨t0, tb0, ta0, ta1, ta2, ta3, ta4, ta5, ta6, ta7, tbb, tii⟩ := id hw
  refine lv_aload_n F.x F.cd dX3_spilledTotal_0 rfl (lv_at hl 0 rfl) ?_
  refine lv_iconst (v := (nI 0)) F.x F.cd dX3_spilledTotal_1 (by decide) ?_
  refine s_put F hW (ci := 7) (C := RX3) (T := TX3) (N := 18) (v := .int (nI 0)) (ty := .int) (t0) (tb0) rfl in_X3 tyX3_ok nmX3 17 (by decide) q2296 (fun _ h9 => h9) rfl (by decide +kernel) rfl rfl (Nat.le_of_ble_eq_true rfl) dX3_spilledTotal_2 (fun H locs hW => ?_)
  obtain ⟨σ2, hσ2⟩ : ∃ z, z = sset σ m (.inr (7, [.ref (A 0), .ref (A 1), .ref (A 2), .int (iv 3), .ref (A 3), .int (iv 5), .ref (A 4), .ref (A 5), .int (iv 8), .ref (A 6), .int (iv 10), .int (iv 11), .ref wd, .ref (A 7), .int (iv 14), .int (iv 15), .int (iv 16), .int (nI 0)])) := ⟨_, rfl⟩
  have hW : Hl g σ2 H locs := by rw [hσ2]; exact hW
  have w2 : σ2 m = some (.inr (7, [.ref (A 0), .ref (A 1), .ref (A 2), .int (iv 3), .ref (A 3), .int (iv 5), .ref (A 4), .ref (A 5), .int (iv 8), .ref (A 6), .int (iv 10), .int (iv 11), .ref wd, .ref (A 7), .int (iv 14), .int (iv 15), .int (iv 16), .int (nI 0)])) := by rw [hσ2]; exact sset_eq
  have f3 : σ2 (A 0) = some (eI g 0 114 (fun x9 => nI ((ar 0) x9))) := by rw [hσ2, sset_ne (sto_ne t0 ta0 (by simp))]; exact ta0
  have f4 : σ2 (A 1) = some (eI g 0 114 (fun x9 => nI ((ar 1) x9))) := by rw [hσ2, sset_ne (sto_ne t0 ta1 (by simp))]; exact ta1
  have f5 : σ2 (A 2) = some (eI g 0 912 (fun x9 => nI ((ar 2) x9))) := by rw [hσ2, sset_ne (sto_ne t0 ta2 (by simp))]; exact ta2
  have f6 : σ2 (A 3) = some (eI g 0 114 (fun x9 => nI ((ar 3) x9))) := by rw [hσ2, sset_ne (sto_ne t0 ta3 (by simp))]; exact ta3
  have f7 : σ2 (A 4) = some (eI g 2 2048 (fun x9 => bI (rb x9))) := by rw [hσ2, sset_ne (sto_ne t0 ta4 (by simp))]; exact ta4
  have f8 : σ2 (A 5) = some (eI g 3 60 (fun x9 => nI ((ar 5) x9))) := by rw [hσ2, sset_ne (sto_ne t0 ta5 (by simp))]; exact ta5
  have f9 : σ2 (A 6) = some (eI g 3 60 (fun x9 => nI ((ar 6) x9))) := by rw [hσ2, sset_ne (sto_ne t0 ta6 (by simp))]; exact ta6
  have f10 : σ2 (A 7) = some (eI g 0 3 (fun x9 => nI ((ar 7) x9))) := by rw [hσ2, sset_ne (sto_ne t0 ta7 (by simp))]; exact ta7
  refine lv_aload_n F.x F.cd dX3_spilledTotal_5 rfl (lv_at hl 0 rfl) ?_
  refine s_get F hW (ci := 7) (C := RX3) (T := TX3) (N := 18) (v := .ref (A 0)) (w2) rfl in_X3 0 (by decide) q2279 (fun _ h9 => h9) rfl dX3_spilledTotal_6 ?_
  refine lv_iconst (v := (nI 5)) F.x F.cd dX3_spilledTotal_9 (by decide) ?_
  refine n_iald (i := 5) (n := 114) (f := (fun x9 => nI ((ar 0) x9))) (x := (nI ((ar 0) 5))) F hW (f3) (by omega) (by omega) (rfl) dX3_spilledTotal_10 ?_
  have tw11 : IsTw g σ2 m A (va_up iv 17 (nI 0)) wd ar rb := ⟨w2, tb0, f3, f4, f5, f6, f7, f8, f9, f10, tbb, tii⟩
  have fm11 : Fm σ σ2 m A := by rw [hσ2]; exact (Fm.refl).setM
  subst hQ
  exact s_reti (v := (nI ((ar 0) 5))) F hW rfl (⟨rfl, tw11, fm11⟩) ⟨(Nat.le_of_ble_eq_true rfl), (Nat.le_of_ble_eq_true rfl)⟩ dX3_spilledTotal_11
set_option maxHeartbeats 4000000 in
theorem k_X3_totalContent (g : Gh) (l : Launch) (σ : Sto) (m : Nat) (A : Nat → Nat) (iv : Nat → Int32) (wd : Nat) (ar : Nat → Nat → Nat) (rb : Nat → Bool)  (hw : IsTw g σ m A iv wd ar rb) (hI : Inv (ar 0)) : Ct g l yX3_totalContent cX3_totalContent 1 (some .int) ({ frames := 0, cells := 0, slots := 0, locals := 0 } : Room) [.ref m] σ (fun r σ' => r = some (.int (nI (sumK (ar 0) (ar 0 0)))) ∧ IsTw g σ' m A (va_up iv 17 (nI 0)) wd ar rb ∧ Fm σ σ' m A) (nox) := by
  refine Ct.body (by decide) (Nat.le_of_ble_eq_true rfl) ?_
  intro p_ e_ s_ m_ args_ below_ meth_ c_ ls H locs Q F hW hl hQ
  have hl : lv_has ls 1 [(0, .ref m)] := hl
  obtain ⟨t0, tb0, ta0, ta1, ta2, ta3, ta4, ta5, ta6, ta7, tbb, tii⟩ := id hw
  refine lv_aload_n F.x F.cd dX3_totalContent_0 rfl (lv_at hl 0 rfl) ?_
  refine lv_iconst (v := (nI 0)) F.x F.cd dX3_totalContent_1 (by decide) ?_
  refine s_put F hW (ci := 7) (C := RX3) (T := TX3) (N := 18) (v := .int (nI 0)) (ty := .int) (t0) (tb0) rfl in_X3 tyX3_ok nmX3 17 (by decide) q2296 (fun _ h9 => h9) rfl (by decide +kernel) rfl rfl (Nat.le_of_ble_eq_true rfl) dX3_totalContent_2 (fun H locs hW => ?_)
  obtain ⟨σ2, hσ2⟩ : ∃ z, z = sset σ m (.inr (7, [.ref (A 0), .ref (A 1), .ref (A 2), .int (iv 3), .ref (A 3), .int (iv 5), .ref (A 4), .ref (A 5), .int (iv 8), .ref (A 6), .int (iv 10), .int (iv 11), .ref wd, .ref (A 7), .int (iv 14), .int (iv 15), .int (iv 16), .int (nI 0)])) := ⟨_, rfl⟩
  have hW : Hl g σ2 H locs := by rw [hσ2]; exact hW
  have w2 : σ2 m = some (.inr (7, [.ref (A 0), .ref (A 1), .ref (A 2), .int (iv 3), .ref (A 3), .int (iv 5), .ref (A 4), .ref (A 5), .int (iv 8), .ref (A 6), .int (iv 10), .int (iv 11), .ref wd, .ref (A 7), .int (iv 14), .int (iv 15), .int (iv 16), .int (nI 0)])) := by rw [hσ2]; exact sset_eq
  have f3 : σ2 (A 0) = some (eI g 0 114 (fun x9 => nI ((ar 0) x9))) := by rw [hσ2, sset_ne (sto_ne t0 ta0 (by simp))]; exact ta0
  have f4 : σ2 (A 1) = some (eI g 0 114 (fun x9 => nI ((ar 1) x9))) := by rw [hσ2, sset_ne (sto_ne t0 ta1 (by simp))]; exact ta1
  have f5 : σ2 (A 2) = some (eI g 0 912 (fun x9 => nI ((ar 2) x9))) := by rw [hσ2, sset_ne (sto_ne t0 ta2 (by simp))]; exact ta2
  have f6 : σ2 (A 3) = some (eI g 0 114 (fun x9 => nI ((ar 3) x9))) := by rw [hσ2, sset_ne (sto_ne t0 ta3 (by simp))]; exact ta3
  have f7 : σ2 (A 4) = some (eI g 2 2048 (fun x9 => bI (rb x9))) := by rw [hσ2, sset_ne (sto_ne t0 ta4 (by simp))]; exact ta4
  have f8 : σ2 (A 5) = some (eI g 3 60 (fun x9 => nI ((ar 5) x9))) := by rw [hσ2, sset_ne (sto_ne t0 ta5 (by simp))]; exact ta5
  have f9 : σ2 (A 6) = some (eI g 3 60 (fun x9 => nI ((ar 6) x9))) := by rw [hσ2, sset_ne (sto_ne t0 ta6 (by simp))]; exact ta6
  have f10 : σ2 (A 7) = some (eI g 0 3 (fun x9 => nI ((ar 7) x9))) := by rw [hσ2, sset_ne (sto_ne t0 ta7 (by simp))]; exact ta7
  refine lv_aload_n F.x F.cd dX3_totalContent_5 rfl (lv_at hl 0 rfl) ?_
  refine s_get F hW (ci := 7) (C := RX3) (T := TX3) (N := 18) (v := .ref (A 0)) (w2) rfl in_X3 0 (by decide) q2279 (fun _ h9 => h9) rfl dX3_totalContent_6 ?_
  refine lv_iconst (v := (nI 3)) F.x F.cd dX3_totalContent_9 (by decide) ?_
  refine n_iald (i := 3) (n := 114) (f := (fun x9 => nI ((ar 0) x9))) (x := (nI ((ar 0) 3))) F hW (f3) (by omega) (by omega) (rfl) dX3_totalContent_10 ?_
  refine lv_aload_n F.x F.cd dX3_totalContent_11 rfl (lv_at hl 0 rfl) ?_
  refine s_get F hW (ci := 7) (C := RX3) (T := TX3) (N := 18) (v := .ref (A 0)) (w2) rfl in_X3 0 (by decide) q2279 (fun _ h9 => h9) rfl dX3_totalContent_12 ?_
  refine lv_iconst (v := (nI 4)) F.x F.cd dX3_totalContent_15 (by decide) ?_
  refine n_iald (i := 4) (n := 114) (f := (fun x9 => nI ((ar 0) x9))) (x := (nI ((ar 0) 4))) F hW (f3) (by omega) (by omega) (rfl) dX3_totalContent_16 ?_
  refine a_isub (v := ((nI ((ar 0) 3)) - (nI ((ar 0) 4)))) F (rfl) dX3_totalContent_17 ?_
  refine lv_aload_n F.x F.cd dX3_totalContent_18 rfl (lv_at hl 0 rfl) ?_
  refine s_get F hW (ci := 7) (C := RX3) (T := TX3) (N := 18) (v := .ref (A 0)) (w2) rfl in_X3 0 (by decide) q2279 (fun _ h9 => h9) rfl dX3_totalContent_19 ?_
  refine lv_iconst (v := (nI 5)) F.x F.cd dX3_totalContent_22 (by decide) ?_
  refine n_iald (i := 5) (n := 114) (f := (fun x9 => nI ((ar 0) x9))) (x := (nI ((ar 0) 5))) F hW (f3) (by omega) (by omega) (rfl) dX3_totalContent_23 ?_
  refine a_isub (v := (((nI ((ar 0) 3)) - (nI ((ar 0) 4))) - (nI ((ar 0) 5)))) F (rfl) dX3_totalContent_24 ?_
  have tw11 : IsTw g σ2 m A (va_up iv 17 (nI 0)) wd ar rb := ⟨w2, tb0, f3, f4, f5, f6, f7, f8, f9, f10, tbb, tii⟩
  have fm11 : Fm σ σ2 m A := by rw [hσ2]; exact (Fm.refl).setM
  subst hQ
  exact s_reti (v := (((nI ((ar 0) 3)) - (nI ((ar 0) 4))) - (nI ((ar 0) 5)))) F hW rfl (⟨by rw [← acc_sum hI], tw11, fm11⟩) ⟨(Nat.le_of_ble_eq_true rfl), (Nat.le_of_ble_eq_true rfl)⟩ dX3_totalContent_25
set_option maxHeartbeats 4000000 in
theorem k_X3_totalContentByAccounts (g : Gh) (l : Launch) (σ : Sto) (m : Nat) (A : Nat → Nat) (iv : Nat → Int32) (wd : Nat) (ar : Nat → Nat → Nat) (rb : Nat → Bool)  (hw : IsTw g σ m A iv wd ar rb) (hI : Inv (ar 0)) : Ct g l yX3_totalContentByAccounts cX3_totalContentByAccounts 1 (some .int) ({ frames := 1, cells := 0, slots := 0, locals := 20 } : Room) [.ref m] σ (fun r σ' => r = some (.int (nI (sumK (ar 0) (ar 0 0)))) ∧ IsTw g σ' m A (va_up iv 17 (nI 0)) wd ar rb ∧ Fm σ σ' m A) (nox) := by
  refine Ct.body (by decide) (Nat.le_of_ble_eq_true rfl) ?_
  intro p_ e_ s_ m_ args_ below_ meth_ c_ ls H locs Q F hW hl hQ
  have hl : lv_has ls 1 [(0, .ref m)] := hl
  obtain ⟨t0, tb0, ta0, ta1, ta2, ta3, ta4, ta5, ta6, ta7, tbb, tii⟩ := id hw
  refine lv_aload_n F.x F.cd dX3_totalContentByAccounts_0 rfl (lv_at hl 0 rfl) ?_
  refine s_callV (As := []) (rest := []) (C := RX3) (T := TX3) (N := 18) (n := 0) F hW (k_X3_totalContent g l σ m A _ _ _ _  hw hI) (t0) rfl q2634 q2627 q2628 q79 q2629 rfl (by decide +kernel) rfl ⟨⟨Nat.le_of_ble_eq_true rfl, Nat.le_of_ble_eq_true rfl⟩, ⟨(Nat.le_of_ble_eq_true rfl), (Nat.le_of_ble_eq_true rfl)⟩⟩ (Nat.le_of_ble_eq_true rfl) hl.1 rfl dX3_totalContentByAccounts_1 cX_no (fun r1 σ1 H locs hp1 hW => ?_)
  obtain ⟨rfl, tv1, fv1⟩ := hp1
  refine W.eq (g2 := F0 m_ 4 ls (.int (nI (sumK (ar 0) ((ar 0) 0))) :: [])) rfl ?_
  obtain ⟨t0_2, -, ta0_2, ta1_2, ta2_2, ta3_2, ta4_2, ta5_2, ta6_2, ta7_2, -, -⟩ := id tv1
  have fm_2 : Fm σ σ1 m A := (Fm.refl).trans fv1
  have tw_2 : IsTw g σ1 m A (va_up iv 17 (nI 0)) wd ar rb := ⟨t0_2, tb0, ta0_2, ta1_2, ta2_2, ta3_2, ta4_2, ta5_2, ta6_2, ta7_2, tbb, tii⟩
  subst hQ
  exact s_reti (v := (nI (sumK (ar 0) ((ar 0) 0)))) F hW rfl (⟨rfl, tw_2, fm_2⟩) ⟨(Nat.le_of_ble_eq_true rfl), (Nat.le_of_ble_eq_true rfl)⟩ dX3_totalContentByAccounts_4
set_option maxHeartbeats 4000000 in
theorem k_X3_isConsistent (g : Gh) (l : Launch) (σ : Sto) (m : Nat) (A : Nat → Nat) (iv : Nat → Int32) (wd : Nat) (ar : Nat → Nat → Nat) (rb : Nat → Bool)  (hw : IsTw g σ m A iv wd ar rb)  : Ct g l yX3_isConsistent cX3_isConsistent 1 (some .boolean) ({ frames := 0, cells := 0, slots := 0, locals := 0 } : Room) [.ref m] σ (fun r σ' => r = some (.int (bI true)) ∧ IsTw g σ' m A (va_up iv 17 (nI 0)) wd ar rb ∧ Fm σ σ' m A) (nox) := by
  refine Ct.body (by decide) (Nat.le_of_ble_eq_true rfl) ?_
  intro p_ e_ s_ m_ args_ below_ meth_ c_ ls H locs Q F hW hl hQ
  have hl : lv_has ls 1 [(0, .ref m)] := hl
  obtain ⟨t0, tb0, ta0, ta1, ta2, ta3, ta4, ta5, ta6, ta7, tbb, tii⟩ := id hw
  refine lv_aload_n F.x F.cd dX3_isConsistent_0 rfl (lv_at hl 0 rfl) ?_
  refine lv_iconst (v := (nI 0)) F.x F.cd dX3_isConsistent_1 (by decide) ?_
  refine s_put F hW (ci := 7) (C := RX3) (T := TX3) (N := 18) (v := .int (nI 0)) (ty := .int) (t0) (tb0) rfl in_X3 tyX3_ok nmX3 17 (by decide) q2296 (fun _ h9 => h9) rfl (by decide +kernel) rfl rfl (Nat.le_of_ble_eq_true rfl) dX3_isConsistent_2 (fun H locs hW => ?_)
  obtain ⟨σ2, hσ2⟩ : ∃ z, z = sset σ m (.inr (7, [.ref (A 0), .ref (A 1), .ref (A 2), .int (iv 3), .ref (A 3), .int (iv 5), .ref (A 4), .ref (A 5), .int (iv 8), .ref (A 6), .int (iv 10), .int (iv 11), .ref wd, .ref (A 7), .int (iv 14), .int (iv 15), .int (iv 16), .int (nI 0)])) := ⟨_, rfl⟩
  have hW : Hl g σ2 H locs := by rw [hσ2]; exact hW
  have w2 : σ2 m = some (.inr (7, [.ref (A 0), .ref (A 1), .ref (A 2), .int (iv 3), .ref (A 3), .int (iv 5), .ref (A 4), .ref (A 5), .int (iv 8), .ref (A 6), .int (iv 10), .int (iv 11), .ref wd, .ref (A 7), .int (iv 14), .int (iv 15), .int (iv 16), .int (nI 0)])) := by rw [hσ2]; exact sset_eq
  have f3 : σ2 (A 0) = some (eI g 0 114 (fun x9 => nI ((ar 0) x9))) := by rw [hσ2, sset_ne (sto_ne t0 ta0 (by simp))]; exact ta0
  have f4 : σ2 (A 1) = some (eI g 0 114 (fun x9 => nI ((ar 1) x9))) := by rw [hσ2, sset_ne (sto_ne t0 ta1 (by simp))]; exact ta1
  have f5 : σ2 (A 2) = some (eI g 0 912 (fun x9 => nI ((ar 2) x9))) := by rw [hσ2, sset_ne (sto_ne t0 ta2 (by simp))]; exact ta2
  have f6 : σ2 (A 3) = some (eI g 0 114 (fun x9 => nI ((ar 3) x9))) := by rw [hσ2, sset_ne (sto_ne t0 ta3 (by simp))]; exact ta3
  have f7 : σ2 (A 4) = some (eI g 2 2048 (fun x9 => bI (rb x9))) := by rw [hσ2, sset_ne (sto_ne t0 ta4 (by simp))]; exact ta4
  have f8 : σ2 (A 5) = some (eI g 3 60 (fun x9 => nI ((ar 5) x9))) := by rw [hσ2, sset_ne (sto_ne t0 ta5 (by simp))]; exact ta5
  have f9 : σ2 (A 6) = some (eI g 3 60 (fun x9 => nI ((ar 6) x9))) := by rw [hσ2, sset_ne (sto_ne t0 ta6 (by simp))]; exact ta6
  have f10 : σ2 (A 7) = some (eI g 0 3 (fun x9 => nI ((ar 7) x9))) := by rw [hσ2, sset_ne (sto_ne t0 ta7 (by simp))]; exact ta7
  refine lv_iconst (v := (nI 1)) F.x F.cd dX3_isConsistent_5 (by decide) ?_
  have tw11 : IsTw g σ2 m A (va_up iv 17 (nI 0)) wd ar rb := ⟨w2, tb0, f3, f4, f5, f6, f7, f8, f9, f10, tbb, tii⟩
  have fm11 : Fm σ σ2 m A := by rw [hσ2]; exact (Fm.refl).setM
  subst hQ
  exact s_reti (v := (nI 1)) F hW (by decide) (⟨rfl, tw11, fm11⟩) ⟨(Nat.le_of_ble_eq_true rfl), (Nat.le_of_ble_eq_true rfl)⟩ dX3_isConsistent_6
set_option maxHeartbeats 4000000 in
theorem k_X3_errorPosition (g : Gh) (l : Launch) (σ : Sto) (m : Nat) (A : Nat → Nat) (iv : Nat → Int32) (wd : Nat) (ar : Nat → Nat → Nat) (rb : Nat → Bool)  (hw : IsTw g σ m A iv wd ar rb)  : Ct g l yX3_errorPosition cX3_errorPosition 1 (some .int) ({ frames := 1, cells := 0, slots := 0, locals := 21 } : Room) [.ref m] σ (fun r σ' => (0 ≤ iv 14 ∧ r = some (.int (iv 14)) ∧ IsTw g σ' m A (va_up iv 17 (nI 0)) wd ar rb ∧ Fm σ σ' m A) ∨ (¬ 0 ≤ iv 14 ∧ r = some (.int (nI 0)) ∧ IsTw g σ' m A (va_up iv 17 (nI 1)) wd ar rb ∧ Fm σ σ' m A)) (nox) := by
  refine Ct.body (by decide) (Nat.le_of_ble_eq_true rfl) ?_
  intro p_ e_ s_ m_ args_ below_ meth_ c_ ls H locs Q F hW hl hQ
  have hl : lv_has ls 1 [(0, .ref m)] := hl
  obtain ⟨t0, tb0, ta0, ta1, ta2, ta3, ta4, ta5, ta6, ta7, tbb, tii⟩ := id hw
  refine lv_aload_n F.x F.cd dX3_errorPosition_0 rfl (lv_at hl 0 rfl) ?_
  refine lv_iconst (v := (nI 0)) F.x F.cd dX3_errorPosition_1 (by decide) ?_
  refine s_put F hW (ci := 7) (C := RX3) (T := TX3) (N := 18) (v := .int (nI 0)) (ty := .int) (t0) (tb0) rfl in_X3 tyX3_ok nmX3 17 (by decide) q2296 (fun _ h9 => h9) rfl (by decide +kernel) rfl rfl (Nat.le_of_ble_eq_true rfl) dX3_errorPosition_2 (fun H locs hW => ?_)
  obtain ⟨σ2, hσ2⟩ : ∃ z, z = sset σ m (.inr (7, [.ref (A 0), .ref (A 1), .ref (A 2), .int (iv 3), .ref (A 3), .int (iv 5), .ref (A 4), .ref (A 5), .int (iv 8), .ref (A 6), .int (iv 10), .int (iv 11), .ref wd, .ref (A 7), .int (iv 14), .int (iv 15), .int (iv 16), .int (nI 0)])) := ⟨_, rfl⟩
  have hW : Hl g σ2 H locs := by rw [hσ2]; exact hW
  have w2 : σ2 m = some (.inr (7, [.ref (A 0), .ref (A 1), .ref (A 2), .int (iv 3), .ref (A 3), .int (iv 5), .ref (A 4), .ref (A 5), .int (iv 8), .ref (A 6), .int (iv 10), .int (iv 11), .ref wd, .ref (A 7), .int (iv 14), .int (iv 15), .int (iv 16), .int (nI 0)])) := by rw [hσ2]; exact sset_eq
  have f3 : σ2 (A 0) = some (eI g 0 114 (fun x9 => nI ((ar 0) x9))) := by rw [hσ2, sset_ne (sto_ne t0 ta0 (by simp))]; exact ta0
  have f4 : σ2 (A 1) = some (eI g 0 114 (fun x9 => nI ((ar 1) x9))) := by rw [hσ2, sset_ne (sto_ne t0 ta1 (by simp))]; exact ta1
  have f5 : σ2 (A 2) = some (eI g 0 912 (fun x9 => nI ((ar 2) x9))) := by rw [hσ2, sset_ne (sto_ne t0 ta2 (by simp))]; exact ta2
  have f6 : σ2 (A 3) = some (eI g 0 114 (fun x9 => nI ((ar 3) x9))) := by rw [hσ2, sset_ne (sto_ne t0 ta3 (by simp))]; exact ta3
  have f7 : σ2 (A 4) = some (eI g 2 2048 (fun x9 => bI (rb x9))) := by rw [hσ2, sset_ne (sto_ne t0 ta4 (by simp))]; exact ta4
  have f8 : σ2 (A 5) = some (eI g 3 60 (fun x9 => nI ((ar 5) x9))) := by rw [hσ2, sset_ne (sto_ne t0 ta5 (by simp))]; exact ta5
  have f9 : σ2 (A 6) = some (eI g 3 60 (fun x9 => nI ((ar 6) x9))) := by rw [hσ2, sset_ne (sto_ne t0 ta6 (by simp))]; exact ta6
  have f10 : σ2 (A 7) = some (eI g 0 3 (fun x9 => nI ((ar 7) x9))) := by rw [hσ2, sset_ne (sto_ne t0 ta7 (by simp))]; exact ta7
  refine lv_aload_n F.x F.cd dX3_errorPosition_5 rfl (lv_at hl 0 rfl) ?_
  refine s_get F hW (ci := 7) (C := RX3) (T := TX3) (N := 18) (v := .int (iv 14)) (w2) rfl in_X3 14 (by decide) q2293 (fun _ h9 => h9) rfl dX3_errorPosition_6 ?_
  refine lv_if_ge (x := (iv 14)) (tgt := 20) F.x F.cd dX3_errorPosition_9 (by decide) (fun c_9 => ?_) (fun c_9 => ?_)
  · refine lv_aload_n F.x F.cd dX3_errorPosition_20 rfl (lv_at hl 0 rfl) ?_
    refine s_get F hW (ci := 7) (C := RX3) (T := TX3) (N := 18) (v := .int (iv 14)) (w2) rfl in_X3 14 (by decide) q2293 (fun _ h9 => h9) rfl dX3_errorPosition_21 ?_
    have tw11 : IsTw g σ2 m A (va_up iv 17 (nI 0)) wd ar rb := ⟨w2, tb0, f3, f4, f5, f6, f7, f8, f9, f10, tbb, tii⟩
    have fm11 : Fm σ σ2 m A := by rw [hσ2]; exact (Fm.refl).setM
    subst hQ
    exact s_reti (v := (iv 14)) F hW rfl (Or.inl ⟨c_9, rfl, tw11, fm11⟩) ⟨(Nat.le_of_ble_eq_true rfl), (Nat.le_of_ble_eq_true rfl)⟩ dX3_errorPosition_24
  · refine lv_aload_n F.x F.cd dX3_errorPosition_12 rfl (lv_at hl 0 rfl) ?_
    refine lv_iconst (v := (nI 1)) F.x F.cd dX3_errorPosition_13 (by decide) ?_
    have tw12 : IsTw g σ2 m A (va_up iv 17 (nI 0)) wd ar rb := ⟨w2, tb0, f3, f4, f5, f6, f7, f8, f9, f10, tbb, tii⟩
    have fm12 : Fm σ σ2 m A := by rw [hσ2]; exact (Fm.refl).setM
    refine s_callV (As := [.int (nI 1)]) (rest := []) (C := RX3) (T := TX3) (N := 18) (n := 1) F hW (k_X3_raises g l σ2 m A _ _ _ _ (nI 1) tw12 ) (w2) rfl q2362 q2364 qs37 q79 q2365 rfl (by decide +kernel) rfl ⟨⟨Nat.le_of_ble_eq_true rfl, Nat.le_of_ble_eq_true rfl⟩, ⟨(Nat.le_of_ble_eq_true rfl), (Nat.le_of_ble_eq_true rfl)⟩⟩ (Nat.le_of_ble_eq_true rfl) hl.1 rfl dX3_errorPosition_14 cX_no (fun r13 σ13 H locs hp13 hW => ?_)
    obtain ⟨rfl, tv13, fv13⟩ := hp13
    refine W.eq (g2 := F0 m_ 17 ls (.int (nI 0) :: [])) rfl ?_
    obtain ⟨t0_14, -, ta0_14, ta1_14, ta2_14, ta3_14, ta4_14, ta5_14, ta6_14, ta7_14, -, -⟩ := id tv13
    have fm_14 : Fm σ σ13 m A := (fm12).trans fv13
    have tw_14 : IsTw g σ13 m A (va_up iv 17 (nI 1)) wd ar rb := ⟨t0_14, tb0, ta0_14, ta1_14, ta2_14, ta3_14, ta4_14, ta5_14, ta6_14, ta7_14, tbb, tii⟩
    refine lv_goto (tgt := 24) F.x F.cd dX3_errorPosition_17 (by decide) ?_
    subst hQ
    exact s_reti (v := (nI 0)) F hW rfl (Or.inr ⟨c_9, rfl, tw_14, fm_14⟩) ⟨(Nat.le_of_ble_eq_true rfl), (Nat.le_of_ble_eq_true rfl)⟩ dX3_errorPosition_24
set_option maxHeartbeats 4000000 in
theorem k_X3_failedCommand (g : Gh) (l : Launch) (σ : Sto) (m : Nat) (A : Nat → Nat) (iv : Nat → Int32) (wd : Nat) (ar : Nat → Nat → Nat) (rb : Nat → Bool)  (hw : IsTw g σ m A iv wd ar rb)  : Ct g l yX3_failedCommand cX3_failedCommand 1 (some .int) ({ frames := 1, cells := 0, slots := 0, locals := 21 } : Room) [.ref m] σ (fun r σ' => (0 ≤ iv 15 ∧ r = some (.int (iv 15)) ∧ IsTw g σ' m A (va_up iv 17 (nI 0)) wd ar rb ∧ Fm σ σ' m A) ∨ (¬ 0 ≤ iv 15 ∧ r = some (.int (nI 0)) ∧ IsTw g σ' m A (va_up iv 17 (nI 1)) wd ar rb ∧ Fm σ σ' m A)) (nox) := by
  refine Ct.body (by decide) (Nat.le_of_ble_eq_true rfl) ?_
  intro p_ e_ s_ m_ args_ below_ meth_ c_ ls H locs Q F hW hl hQ
  have hl : lv_has ls 1 [(0, .ref m)] := hl
  obtain ⟨t0, tb0, ta0, ta1, ta2, ta3, ta4, ta5, ta6, ta7, tbb, tii⟩ := id hw
  refine lv_aload_n F.x F.cd dX3_failedCommand_0 rfl (lv_at hl 0 rfl) ?_
  refine lv_iconst (v := (nI 0)) F.x F.cd dX3_failedCommand_1 (by decide) ?_
  refine s_put F hW (ci := 7) (C := RX3) (T := TX3) (N := 18) (v := .int (nI 0)) (ty := .int) (t0) (tb0) rfl in_X3 tyX3_ok nmX3 17 (by decide) q2296 (fun _ h9 => h9) rfl (by decide +kernel) rfl rfl (Nat.le_of_ble_eq_true rfl) dX3_failedCommand_2 (fun H locs hW => ?_)
  obtain ⟨σ2, hσ2⟩ : ∃ z, z = sset σ m (.inr (7, [.ref (A 0), .ref (A 1), .ref (A 2), .int (iv 3), .ref (A 3), .int (iv 5), .ref (A 4), .ref (A 5), .int (iv 8), .ref (A 6), .int (iv 10), .int (iv 11), .ref wd, .ref (A 7), .int (iv 14), .int (iv 15), .int (iv 16), .int (nI 0)])) := ⟨_, rfl⟩
  have hW : Hl g σ2 H locs := by rw [hσ2]; exact hW
  have w2 : σ2 m = some (.inr (7, [.ref (A 0), .ref (A 1), .ref (A 2), .int (iv 3), .ref (A 3), .int (iv 5), .ref (A 4), .ref (A 5), .int (iv 8), .ref (A 6), .int (iv 10), .int (iv 11), .ref wd, .ref (A 7), .int (iv 14), .int (iv 15), .int (iv 16), .int (nI 0)])) := by rw [hσ2]; exact sset_eq
  have f3 : σ2 (A 0) = some (eI g 0 114 (fun x9 => nI ((ar 0) x9))) := by rw [hσ2, sset_ne (sto_ne t0 ta0 (by simp))]; exact ta0
  have f4 : σ2 (A 1) = some (eI g 0 114 (fun x9 => nI ((ar 1) x9))) := by rw [hσ2, sset_ne (sto_ne t0 ta1 (by simp))]; exact ta1
  have f5 : σ2 (A 2) = some (eI g 0 912 (fun x9 => nI ((ar 2) x9))) := by rw [hσ2, sset_ne (sto_ne t0 ta2 (by simp))]; exact ta2
  have f6 : σ2 (A 3) = some (eI g 0 114 (fun x9 => nI ((ar 3) x9))) := by rw [hσ2, sset_ne (sto_ne t0 ta3 (by simp))]; exact ta3
  have f7 : σ2 (A 4) = some (eI g 2 2048 (fun x9 => bI (rb x9))) := by rw [hσ2, sset_ne (sto_ne t0 ta4 (by simp))]; exact ta4
  have f8 : σ2 (A 5) = some (eI g 3 60 (fun x9 => nI ((ar 5) x9))) := by rw [hσ2, sset_ne (sto_ne t0 ta5 (by simp))]; exact ta5
  have f9 : σ2 (A 6) = some (eI g 3 60 (fun x9 => nI ((ar 6) x9))) := by rw [hσ2, sset_ne (sto_ne t0 ta6 (by simp))]; exact ta6
  have f10 : σ2 (A 7) = some (eI g 0 3 (fun x9 => nI ((ar 7) x9))) := by rw [hσ2, sset_ne (sto_ne t0 ta7 (by simp))]; exact ta7
  refine lv_aload_n F.x F.cd dX3_failedCommand_5 rfl (lv_at hl 0 rfl) ?_
  refine s_get F hW (ci := 7) (C := RX3) (T := TX3) (N := 18) (v := .int (iv 15)) (w2) rfl in_X3 15 (by decide) q2294 (fun _ h9 => h9) rfl dX3_failedCommand_6 ?_
  refine lv_if_ge (x := (iv 15)) (tgt := 20) F.x F.cd dX3_failedCommand_9 (by decide) (fun c_9 => ?_) (fun c_9 => ?_)
  · refine lv_aload_n F.x F.cd dX3_failedCommand_20 rfl (lv_at hl 0 rfl) ?_
    refine s_get F hW (ci := 7) (C := RX3) (T := TX3) (N := 18) (v := .int (iv 15)) (w2) rfl in_X3 15 (by decide) q2294 (fun _ h9 => h9) rfl dX3_failedCommand_21 ?_
    have tw11 : IsTw g σ2 m A (va_up iv 17 (nI 0)) wd ar rb := ⟨w2, tb0, f3, f4, f5, f6, f7, f8, f9, f10, tbb, tii⟩
    have fm11 : Fm σ σ2 m A := by rw [hσ2]; exact (Fm.refl).setM
    subst hQ
    exact s_reti (v := (iv 15)) F hW rfl (Or.inl ⟨c_9, rfl, tw11, fm11⟩) ⟨(Nat.le_of_ble_eq_true rfl), (Nat.le_of_ble_eq_true rfl)⟩ dX3_failedCommand_24
  · refine lv_aload_n F.x F.cd dX3_failedCommand_12 rfl (lv_at hl 0 rfl) ?_
    refine lv_iconst (v := (nI 1)) F.x F.cd dX3_failedCommand_13 (by decide) ?_
    have tw12 : IsTw g σ2 m A (va_up iv 17 (nI 0)) wd ar rb := ⟨w2, tb0, f3, f4, f5, f6, f7, f8, f9, f10, tbb, tii⟩
    have fm12 : Fm σ σ2 m A := by rw [hσ2]; exact (Fm.refl).setM
    refine s_callV (As := [.int (nI 1)]) (rest := []) (C := RX3) (T := TX3) (N := 18) (n := 1) F hW (k_X3_raises g l σ2 m A _ _ _ _ (nI 1) tw12 ) (w2) rfl q2362 q2364 qs37 q79 q2365 rfl (by decide +kernel) rfl ⟨⟨Nat.le_of_ble_eq_true rfl, Nat.le_of_ble_eq_true rfl⟩, ⟨(Nat.le_of_ble_eq_true rfl), (Nat.le_of_ble_eq_true rfl)⟩⟩ (Nat.le_of_ble_eq_true rfl) hl.1 rfl dX3_failedCommand_14 cX_no (fun r13 σ13 H locs hp13 hW => ?_)
    obtain ⟨rfl, tv13, fv13⟩ := hp13
    refine W.eq (g2 := F0 m_ 17 ls (.int (nI 0) :: [])) rfl ?_
    obtain ⟨t0_14, -, ta0_14, ta1_14, ta2_14, ta3_14, ta4_14, ta5_14, ta6_14, ta7_14, -, -⟩ := id tv13
    have fm_14 : Fm σ σ13 m A := (fm12).trans fv13
    have tw_14 : IsTw g σ13 m A (va_up iv 17 (nI 1)) wd ar rb := ⟨t0_14, tb0, ta0_14, ta1_14, ta2_14, ta3_14, ta4_14, ta5_14, ta6_14, ta7_14, tbb, tii⟩
    refine lv_goto (tgt := 24) F.x F.cd dX3_failedCommand_17 (by decide) ?_
    subst hQ
    exact s_reti (v := (nI 0)) F hW rfl (Or.inr ⟨c_9, rfl, tw_14, fm_14⟩) ⟨(Nat.le_of_ble_eq_true rfl), (Nat.le_of_ble_eq_true rfl)⟩ dX3_failedCommand_24
