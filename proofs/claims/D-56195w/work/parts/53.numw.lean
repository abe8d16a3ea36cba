/-! ===== Numbering ===== -/
set_option maxRecDepth 100000
set_option maxHeartbeats 4000000 in
theorem k_X10_follow_1 (g : Gh) (l : Launch) (σ : Sto) (L v : Nat → Nat) (h na la t nx br : Nat) (c : Int32) (num low : Nat → Nat) (num1 low1 : Nat → Nat) (nx1 br1 k : Nat) (hWk : IsWorks g σ L v) (hI : Inv v) (e0 : σ h = some (.inr (13, [.ref na, .ref la, .int (nI nx1), .int (nI br1), .ref (L 0)]))) (en : σ na = some (eI g 0 (v 0) (fun x9 => nI (num1 x9)))) (el : σ la = some (eI g 0 (v 0) (fun x9 => nI (low1 x9)))) (bh : gB g ≤ h) (bn : gB g ≤ na) (bl : gB g ≤ la) (hnl : na ≠ la) (hp : VPre v num nx t c) (hVI : VI v c num low nx br t num1 low1 nx1 br1 k) (hk : k < v 1) (hc0 : nI k ≠ c) (he0 : edg v k t (oth (pA v k) (pB v k) t)) (hun : unvN (fun y => decide (0 < num1 y)) 8 ≤ 0) (hnx : nx1 + unvN (fun y => decide (0 < num1 y)) 8 ≤ 9) : Ct g l yX10_follow cX10_follow 4 none ({ frames := 3, cells := 0, slots := 0, locals := 64 } : Room) [.ref h, .int (nI t), .int (nI k)] σ (fun r σ' => r = none ∧ ∃ (num' low' : Nat → Nat) (nx' br' : Nat), σ' h = some (.inr (13, [.ref na, .ref la, .int (nI nx'), .int (nI br'), .ref (L 0)])) ∧ σ' na = some (eI g 0 (v 0) (fun x9 => nI (num' x9))) ∧ σ' la = some (eI g 0 (v 0) (fun x9 => nI (low' x9))) ∧ Fn σ σ' h na la ∧ nx' + unvN (fun y => decide (0 < num' y)) 8 ≤ 9 ∧ (∀ y, 0 < num1 y → 0 < num' y) ∧ VI v c num low nx br t num' low' nx' br' (k + 1)) (nox) := by
  refine Ct.body (by decide) (Nat.le_of_ble_eq_true rfl) ?_
  intro p_ e_ s_ m_ args_ below_ meth_ c_ ls H locs Q F hW hl hQ
  have hl : lv_has ls 4 [(0, .ref h), (1, .int (nI t)), (2, .int (nI k))] := hl
  have hT := hWk.2.2.1
  have hP := hWk.2.2.2.1
  obtain ⟨mcT, nT, fT, eT, bT, -⟩ := id hT
  obtain ⟨mcP, nP, fP, eP, bP, -⟩ := id hP
  have hv0 := hI.1
  have hv1 := hI.2.1
  have hpq := hI.pp hk
  have htv := hp.2.1
  have hov := oth_lt (t := t) hpq.1 hpq.2.1
  have hnb := fun y => hVI.2.2.2.1.2 y
  have hno := hnb (oth (pA v k) (pB v k) t)
  have hlt := hVI.2.2.2.2.2.2.2.1.1
  have hnn := hVI.2.2.2.1.1
  refine lv_aload_n F.x F.cd dX10_follow_0 rfl (lv_at hl 0 rfl) ?_
  refine s_get F hW (ci := 13) (C := RX10) (T := TX10) (N := 5) (v := .ref (L 0)) (e0) rfl in_X10 4 (by decide) q722 (fun _ h9 => h9) rfl dX10_follow_1 ?_
  refine s_getN F hW (ci := 1) (C := RX2) (T := TX2) (N := 6) (v := .ref (L 2)) (hWk.1) rfl in_X2 1 (by decide) q164 (fun _ h9 => h9) rfl dX10_follow_4 ?_
  refine lv_iload_n F.x F.cd dX10_follow_7 rfl (lv_at hl 2 rfl) ?_
  refine s_callF (As := [.int (nI k)]) (rest := []) (C := RJ2) (T := TJ2) (N := 3) (n := 1) F hW (k_J2_get g l σ _ _ _ _ k hP (by omega)) (eP) rfl (List.mem_of_getElem? (i := 1) rfl) q739 q328 q330 q72 q332 (by decide +kernel) rfl ⟨⟨Nat.le_of_ble_eq_true rfl, Nat.le_of_ble_eq_true rfl⟩, ⟨(Nat.le_of_ble_eq_true rfl), (Nat.le_of_ble_eq_true rfl)⟩⟩ (Nat.le_of_ble_eq_true rfl) hl.1 rfl dX10_follow_8 cX_no (fun r1 σ1 H locs hp1 hW => ?_)
  obtain ⟨rfl, hs1⟩ := hp1
  rw [hs1] at hW
  refine W.eq (g2 := F0 m_ 13 ls (.ref (L (100 + k)) :: [])) rfl ?_
  refine s_cast_ F hW (C := RX5) (T := TX5) (N := 7) ((hWk.2.2.2.2.2.1 k (by omega)).1) rfl q740 dX10_follow_13 ?_
  refine lv_iload_n F.x F.cd dX10_follow_16 rfl (lv_at hl 1 rfl) ?_
  refine s_callV (As := [.int (nI t)]) (rest := []) (C := RX5) (T := TX5) (N := 7) (n := 1) F hW (k_X5_otherEnd g l σ (L (100 + k)) (pA v k) (pB v k) (pM v k) (pV v k) (pR v k) (pD v k) (pL v k) t ((hWk.2.2.2.2.2.1 k (by omega)).1) (by omega) (by omega)) ((hWk.2.2.2.2.2.1 k (by omega)).1) rfl q747 q680 q681 q96 q682 rfl (by decide +kernel) rfl ⟨⟨Nat.le_of_ble_eq_true rfl, Nat.le_of_ble_eq_true rfl⟩, ⟨(Nat.le_of_ble_eq_true rfl), (Nat.le_of_ble_eq_true rfl)⟩⟩ (Nat.le_of_ble_eq_true rfl) hl.1 rfl dX10_follow_17 cX_no (fun r2 σ2 H locs hp2 hW => ?_)
  obtain ⟨rfl, hs2⟩ := hp2
  rw [hs2] at hW
  refine W.eq (g2 := F0 m_ 20 ls (.int (nI (oth (pA v k) (pB v k) t)) :: [])) rfl ?_
  refine lv_istore_n (lv' := [(3, .int (nI (oth (pA v k) (pB v k) t))), (0, .ref h), (1, .int (nI t)), (2, .int (nI k))]) F.x F.cd dX10_follow_20 rfl hl (by decide) rfl (fun ls hl => ?_)
  refine lv_aload_n F.x F.cd dX10_follow_21 rfl (lv_at hl 1 rfl) ?_
  refine s_get F hW (ci := 13) (C := RX10) (T := TX10) (N := 5) (v := .ref na) (e0) rfl in_X10 0 (by decide) q716 (fun _ h9 => h9) rfl dX10_follow_22 ?_
  refine lv_iload_n F.x F.cd dX10_follow_25 rfl (lv_at hl 0 rfl) ?_
  refine n_iald (i := oth (pA v k) (pB v k) t) (n := v 0) (f := (fun x9 => nI (num1 x9))) (x := (nI (num1 (oth (pA v k) (pB v k) t)))) F hW (en) (hov) (by omega) (rfl) dX10_follow_26 ?_
  refine n_if_le (a := num1 (oth (pA v k) (pB v k) t)) (tgt := 54) F (by omega) dX10_follow_27 (by decide) (fun c_27 => ?_) (fun c_27 => ?_)
  · refine lv_aload_n F.x F.cd dX10_follow_54 rfl (lv_at hl 1 rfl) ?_
    refine lv_iload_n F.x F.cd dX10_follow_55 rfl (lv_at hl 0 rfl) ?_
    refine lv_iload_n F.x F.cd dX10_follow_56 rfl (lv_at hl 3 rfl) ?_
    exact absurd (unvN_0 (R := fun y => decide (0 < num1 y)) 8 (by omega) _ (show oth (pA v k) (pB v k) t < 8 by omega)) (by rw [c_27]; decide)
  · refine lv_aload_n F.x F.cd dX10_follow_30 rfl (lv_at hl 1 rfl) ?_
    refine s_get F hW (ci := 13) (C := RX10) (T := TX10) (N := 5) (v := .ref la) (e0) rfl in_X10 1 (by decide) q718 (fun _ h9 => h9) rfl dX10_follow_31 ?_
    refine lv_iload_n F.x F.cd dX10_follow_34 rfl (lv_at hl 2 rfl) ?_
    refine lv_aload_n F.x F.cd dX10_follow_35 rfl (lv_at hl 1 rfl) ?_
    refine s_get F hW (ci := 13) (C := RX10) (T := TX10) (N := 5) (v := .ref la) (e0) rfl in_X10 1 (by decide) q718 (fun _ h9 => h9) rfl dX10_follow_36 ?_
    refine lv_iload_n F.x F.cd dX10_follow_39 rfl (lv_at hl 2 rfl) ?_
    refine n_iald (i := t) (n := v 0) (f := (fun x9 => nI (low1 x9))) (x := (nI (low1 t))) F hW (el) (by omega) (by omega) (rfl) dX10_follow_40 ?_
    refine lv_aload_n F.x F.cd dX10_follow_41 rfl (lv_at hl 1 rfl) ?_
    refine s_get F hW (ci := 13) (C := RX10) (T := TX10) (N := 5) (v := .ref na) (e0) rfl in_X10 0 (by decide) q716 (fun _ h9 => h9) rfl dX10_follow_42 ?_
    refine lv_iload_n F.x F.cd dX10_follow_45 rfl (lv_at hl 0 rfl) ?_
    refine n_iald (i := oth (pA v k) (pB v k) t) (n := v 0) (f := (fun x9 => nI (num1 x9))) (x := (nI (num1 (oth (pA v k) (pB v k) t)))) F hW (en) (hov) (by omega) (rfl) dX10_follow_46 ?_
    refine s_mmin (v := (nI (min (low1 t) (num1 (oth (pA v k) (pB v k) t))))) F q748 q453 q87 q454 hl.1 (Nat.le_of_ble_eq_true rfl) (Nat.le_of_ble_eq_true rfl) (Nat.le_of_ble_eq_true rfl) (Nat.le_of_ble_eq_true rfl) (nI_min (by omega) (by omega)) dX10_follow_47 ?_
    refine n_iastN (i := t) F hW (el) (bl) (by omega) (by omega) dX10_follow_50 (fun H locs hW => ?_)
    obtain ⟨σ3, hσ3⟩ : ∃ z, z = sset σ la (eI g 0 (v 0) (fun x9 => nI ((va_up low1 t (min (low1 t) (num1 (oth (pA v k) (pB v k) t)))) x9))) := ⟨_, rfl⟩
    have hW : Hl g σ3 H locs := by rw [hσ3]; exact hW
    have w3 : σ3 la = some (eI g 0 (v 0) (fun x9 => nI ((va_up low1 t (min (low1 t) (num1 (oth (pA v k) (pB v k) t)))) x9))) := by rw [hσ3]; exact sset_eq
    have f4 : σ3 (L 0) = some (.inr (1, [.ref (L 1), .ref (L 2), .int (nI (v 2)), .int (nI (v 3)), .int (nI (v 4)), .int (nI (v 5))])) := by rw [hσ3, sset_ne (sto_ne el hWk.1 (by simp))]; exact hWk.1
    have f5 : σ3 (L 1) = some (.inr (2, [.int mcT, .ref (L 3), .int (nI (v 0))])) := by rw [hσ3, sset_ne (sto_ne el eT (by simp))]; exact eT
    have j6 := IsList.setI (e := eI g 0 (v 0) (fun x9 => nI ((va_up low1 t (min (low1 t) (num1 (oth (pA v k) (pB v k) t)))) x9))) (hT) (el)
    rw [← hσ3] at j6
    have f7 : σ3 (L 2) = some (.inr (2, [.int mcP, .ref (L 4), .int (nI (v 1))])) := by rw [hσ3, sset_ne (sto_ne el eP (by simp))]; exact eP
    have j8 := IsList.setI (e := eI g 0 (v 0) (fun x9 => nI ((va_up low1 t (min (low1 t) (num1 (oth (pA v k) (pB v k) t)))) x9))) (hP) (el)
    rw [← hσ3] at j8
    have f9 : σ3 h = some (.inr (13, [.ref na, .ref la, .int (nI nx1), .int (nI br1), .ref (L 0)])) := by rw [hσ3, sset_ne (sto_ne el e0 (by simp))]; exact e0
    have f10 : σ3 (L (100 + k)) = some (.inr (9, [.int (nI (pA v k)), .int (nI (pB v k)), .int (nI (pM v k)), .int (nI (pV v k)), .int (nI (pR v k)), .int (nI (pD v k)), .int (nI (pL v k))])) := by rw [hσ3, sset_ne (sto_ne el ((hWk.2.2.2.2.2.1 k (by omega)).1) (by simp))]; exact (hWk.2.2.2.2.2.1 k (by omega)).1
    have f11 : σ3 na = some (eI g 0 (v 0) (fun x9 => nI (num1 x9))) := by rw [hσ3, sset_ne (hnl)]; exact en
    refine lv_goto (tgt := 110) F.x F.cd dX10_follow_51 (by decide) ?_
    subst hQ
    exact s_retv F hW (⟨rfl, _, _, _, _, f9, f11, w3, by rw [hσ3]; exact Fn.refl.set (Or.inr (Or.inr rfl)), hnx, fun y hy => hy, hVI.back hI hp hk hc0 he0 (by omega)⟩) ⟨(Nat.le_of_ble_eq_true rfl), (Nat.le_of_ble_eq_true rfl)⟩ dX10_follow_110
set_option maxHeartbeats 4000000 in
theorem k_X10_visit_1 (g : Gh) (l : Launch) (σ : Sto) (L v : Nat → Nat) (h na la t nx br : Nat) (c : Int32) (num low : Nat → Nat) (hWk : IsWorks g σ L v) (hI : Inv v) (e0 : σ h = some (.inr (13, [.ref na, .ref la, .int (nI nx), .int (nI br), .ref (L 0)]))) (en : σ na = some (eI g 0 (v 0) (fun x9 => nI (num x9)))) (el : σ la = some (eI g 0 (v 0) (fun x9 => nI (low x9)))) (bh : gB g ≤ h) (bn : gB g ≤ na) (bl : gB g ≤ la) (hnl : na ≠ la) (hp : VPre v num nx t c) (hun : unvN (fun y => decide (0 < num y)) 8 ≤ 1) (hnx : nx + unvN (fun y => decide (0 < num y)) 8 ≤ 9) : Ct g l yX10_visit cX10_visit 4 none ({ frames := 4, cells := 0, slots := 0, locals := 87 } : Room) [.ref h, .int (nI t), .int c] σ (fun r σ' => r = none ∧ ∃ (num' low' : Nat → Nat) (nx' br' : Nat), σ' h = some (.inr (13, [.ref na, .ref la, .int (nI nx'), .int (nI br'), .ref (L 0)])) ∧ σ' na = some (eI g 0 (v 0) (fun x9 => nI (num' x9))) ∧ σ' la = some (eI g 0 (v 0) (fun x9 => nI (low' x9))) ∧ Fn σ σ' h na la ∧ nx' + unvN (fun y => decide (0 < num' y)) 8 ≤ 9 ∧ VP v c num low nx br t num' low' nx' br') (nox) := by
  refine Ct.body (by decide) (Nat.le_of_ble_eq_true rfl) ?_
  intro p_ e_ s_ m_ args_ below_ meth_ c_ ls H locs Q F hW hl hQ
  have hl : lv_has ls 4 [(0, .ref h), (1, .int (nI t)), (2, .int c)] := hl
  have hT := hWk.2.2.1
  have hP := hWk.2.2.2.1
  obtain ⟨mcT, nT, fT, eT, bT, -⟩ := id hT
  obtain ⟨mcP, nP, fP, eP, bP, -⟩ := id hP
  have hv0 := hI.1
  have hv1 := hI.2.1
  have hlt9 := unvN_lt (R := fun y => decide (0 < num y)) (R' := fun y => decide (0 < va_up num t nx y)) (fun y hy => by unfold va_up; split; exact decide_eq_true hp.2.2.1; exact hy) (t := t) (decide_eq_false (by rw [hp.1]; decide)) (decide_eq_true (by rw [va_up_self]; exact hp.2.2.1)) 8 (Nat.lt_of_lt_of_le hp.2.1 hI.1)
  have hpv := hp.2.1
  refine lv_aload_n F.x F.cd dX10_visit_0 rfl (lv_at hl 0 rfl) ?_
  refine s_get F hW (ci := 13) (C := RX10) (T := TX10) (N := 5) (v := .ref na) (e0) rfl in_X10 0 (by decide) q716 (fun _ h9 => h9) rfl dX10_visit_1 ?_
  refine lv_iload_n F.x F.cd dX10_visit_4 rfl (lv_at hl 1 rfl) ?_
  refine lv_aload_n F.x F.cd dX10_visit_5 rfl (lv_at hl 0 rfl) ?_
  refine s_get F hW (ci := 13) (C := RX10) (T := TX10) (N := 5) (v := .int (nI nx)) (e0) rfl in_X10 2 (by decide) q719 (fun _ h9 => h9) rfl dX10_visit_6 ?_
  refine n_iastN (i := t) F hW (en) (bn) (hp.2.1) (by omega) dX10_visit_9 (fun H locs hW => ?_)
  obtain ⟨σ1, hσ1⟩ : ∃ z, z = sset σ na (eI g 0 (v 0) (fun x9 => nI ((va_up num t nx) x9))) := ⟨_, rfl⟩
  have hW : Hl g σ1 H locs := by rw [hσ1]; exact hW
  have w1 : σ1 na = some (eI g 0 (v 0) (fun x9 => nI ((va_up num t nx) x9))) := by rw [hσ1]; exact sset_eq
  have f2 : σ1 (L 0) = some (.inr (1, [.ref (L 1), .ref (L 2), .int (nI (v 2)), .int (nI (v 3)), .int (nI (v 4)), .int (nI (v 5))])) := by rw [hσ1, sset_ne (sto_ne en hWk.1 (by simp))]; exact hWk.1
  have f3 : σ1 (L 1) = some (.inr (2, [.int mcT, .ref (L 3), .int (nI (v 0))])) := by rw [hσ1, sset_ne (sto_ne en eT (by simp))]; exact eT
  have j4 := IsList.setI (e := eI g 0 (v 0) (fun x9 => nI ((va_up num t nx) x9))) (hT) (en)
  rw [← hσ1] at j4
  have f5 : σ1 (L 2) = some (.inr (2, [.int mcP, .ref (L 4), .int (nI (v 1))])) := by rw [hσ1, sset_ne (sto_ne en eP (by simp))]; exact eP
  have j6 := IsList.setI (e := eI g 0 (v 0) (fun x9 => nI ((va_up num t nx) x9))) (hP) (en)
  rw [← hσ1] at j6
  have f7 : σ1 h = some (.inr (13, [.ref na, .ref la, .int (nI nx), .int (nI br), .ref (L 0)])) := by rw [hσ1, sset_ne (sto_ne en e0 (by simp))]; exact e0
  have f8 : σ1 la = some (eI g 0 (v 0) (fun x9 => nI (low x9))) := by rw [hσ1, sset_ne (Ne.symm hnl)]; exact el
  refine lv_aload_n F.x F.cd dX10_visit_10 rfl (lv_at hl 0 rfl) ?_
  refine s_get F hW (ci := 13) (C := RX10) (T := TX10) (N := 5) (v := .ref la) (f7) rfl in_X10 1 (by decide) q718 (fun _ h9 => h9) rfl dX10_visit_11 ?_
  refine lv_iload_n F.x F.cd dX10_visit_14 rfl (lv_at hl 1 rfl) ?_
  refine lv_aload_n F.x F.cd dX10_visit_15 rfl (lv_at hl 0 rfl) ?_
  refine s_get F hW (ci := 13) (C := RX10) (T := TX10) (N := 5) (v := .int (nI nx)) (f7) rfl in_X10 2 (by decide) q719 (fun _ h9 => h9) rfl dX10_visit_16 ?_
  refine n_iastN (i := t) F hW (f8) (bl) (hp.2.1) (by omega) dX10_visit_19 (fun H locs hW => ?_)
  obtain ⟨σ9, hσ9⟩ : ∃ z, z = sset σ1 la (eI g 0 (v 0) (fun x9 => nI ((va_up low t nx) x9))) := ⟨_, rfl⟩
  have hW : Hl g σ9 H locs := by rw [hσ9]; exact hW
  have w9 : σ9 la = some (eI g 0 (v 0) (fun x9 => nI ((va_up low t nx) x9))) := by rw [hσ9]; exact sset_eq
  have f10 : σ9 (L 0) = some (.inr (1, [.ref (L 1), .ref (L 2), .int (nI (v 2)), .int (nI (v 3)), .int (nI (v 4)), .int (nI (v 5))])) := by rw [hσ9, sset_ne (sto_ne f8 f2 (by simp))]; exact f2
  have f11 : σ9 (L 1) = some (.inr (2, [.int mcT, .ref (L 3), .int (nI (v 0))])) := by rw [hσ9, sset_ne (sto_ne f8 f3 (by simp))]; exact f3
  have j12 := IsList.setI (e := eI g 0 (v 0) (fun x9 => nI ((va_up low t nx) x9))) (j4) (f8)
  rw [← hσ9] at j12
  have f13 : σ9 (L 2) = some (.inr (2, [.int mcP, .ref (L 4), .int (nI (v 1))])) := by rw [hσ9, sset_ne (sto_ne f8 f5 (by simp))]; exact f5
  have j14 := IsList.setI (e := eI g 0 (v 0) (fun x9 => nI ((va_up low t nx) x9))) (j6) (f8)
  rw [← hσ9] at j14
  have f15 : σ9 h = some (.inr (13, [.ref na, .ref la, .int (nI nx), .int (nI br), .ref (L 0)])) := by rw [hσ9, sset_ne (sto_ne f8 f7 (by simp))]; exact f7
  have f16 : σ9 na = some (eI g 0 (v 0) (fun x9 => nI ((va_up num t nx) x9))) := by rw [hσ9, sset_ne (hnl)]; exact w1
  refine lv_aload_n F.x F.cd dX10_visit_20 rfl (lv_at hl 0 rfl) ?_
  refine lv_dup F.x F.cd dX10_visit_21 rfl ?_
  refine s_get F hW (ci := 13) (C := RX10) (T := TX10) (N := 5) (v := .int (nI nx)) (f15) rfl in_X10 2 (by decide) q719 (fun _ h9 => h9) rfl dX10_visit_22 ?_
  refine lv_iconst (v := (nI 1)) F.x F.cd dX10_visit_25 (by decide) ?_
  refine a_iadd (v := (nI (nx + 1))) F (nI_add _ _) dX10_visit_26 ?_
  refine s_put F hW (ci := 13) (C := RX10) (T := TX10) (N := 5) (v := .int (nI (nx + 1))) (ty := .int) (f15) (bh) rfl in_X10 tyX10_ok nmX10 2 (by decide) q719 (fun _ h9 => h9) rfl (by decide +kernel) rfl rfl (Nat.le_of_ble_eq_true rfl) dX10_visit_27 (fun H locs hW => ?_)
  obtain ⟨σ18, hσ18⟩ : ∃ z, z = sset σ9 h (.inr (13, [.ref na, .ref la, .int (nI (nx + 1)), .int (nI br), .ref (L 0)])) := ⟨_, rfl⟩
  have hW : Hl g σ18 H locs := by rw [hσ18]; exact hW
  have w18 : σ18 h = some (.inr (13, [.ref na, .ref la, .int (nI (nx + 1)), .int (nI br), .ref (L 0)])) := by rw [hσ18]; exact sset_eq
  have f19 : σ18 (L 0) = some (.inr (1, [.ref (L 1), .ref (L 2), .int (nI (v 2)), .int (nI (v 3)), .int (nI (v 4)), .int (nI (v 5))])) := by rw [hσ18, sset_ne (sto_ne f15 f10 (by simp))]; exact f10
  have f20 : σ18 (L 1) = some (.inr (2, [.int mcT, .ref (L 3), .int (nI (v 0))])) := by rw [hσ18, sset_ne (sto_ne f15 f11 (by simp))]; exact f11
  have j21 := IsList.setO (e := .inr (13, [.ref na, .ref la, .int (nI (nx + 1)), .int (nI br), .ref (L 0)])) (j12) (f15) (by decide)
  rw [← hσ18] at j21
  have f22 : σ18 (L 2) = some (.inr (2, [.int mcP, .ref (L 4), .int (nI (v 1))])) := by rw [hσ18, sset_ne (sto_ne f15 f13 (by simp))]; exact f13
  have j23 := IsList.setO (e := .inr (13, [.ref na, .ref la, .int (nI (nx + 1)), .int (nI br), .ref (L 0)])) (j14) (f15) (by decide)
  rw [← hσ18] at j23
  have f24 : σ18 na = some (eI g 0 (v 0) (fun x9 => nI ((va_up num t nx) x9))) := by rw [hσ18, sset_ne (sto_ne f15 f16 (by simp))]; exact f16
  have f25 : σ18 la = some (eI g 0 (v 0) (fun x9 => nI ((va_up low t nx) x9))) := by rw [hσ18, sset_ne (sto_ne f15 w9 (by simp))]; exact w9
  refine lv_iconst (v := (nI 0)) F.x F.cd dX10_visit_30 (by decide) ?_
  refine lv_istore_n (lv' := [(3, .int (nI 0)), (0, .ref h), (1, .int (nI t)), (2, .int c)]) F.x F.cd dX10_visit_31 rfl hl (by decide) rfl (fun ls hl => ?_)
  have loop32 : ∀ (n : Nat) (k : Nat) (σk : Sto) (num1 low1 : Nat → Nat) (nx1 br1 : Nat), k + n = v 1 → σk h = some (.inr (13, [.ref na, .ref la, .int (nI nx1), .int (nI br1), .ref (L 0)])) → σk na = some (eI g 0 (v 0) (fun x9 => nI (num1 x9))) → σk la = some (eI g 0 (v 0) (fun x9 => nI (low1 x9))) → Fn σ σk h na la → nx1 + unvN (fun y => decide (0 < num1 y)) 8 ≤ 9 → unvN (fun y => decide (0 < num1 y)) 8 ≤ 0 → VI v c num low nx br t num1 low1 nx1 br1 k → ∀ (H : Heap) (locs : List Loc) (ls : Array Slot), Hl g σk H locs → lv_has ls 4 [(0, .ref h), (1, .int (nI t)), (2, .int c), (3, .int (nI k))] → W p_ l e_ ({ frames := 4, cells := 0, slots := 0, locals := 87 } : Room) s_ m_ args_ below_ meth_ c_ H locs 0 0 Q (F0 m_ 32 ls ([])) := by
    intro n
    induction n with
    | zero =>
      intro k σk num1 low1 nx1 br1 hkn e1 en1 el1 hFk hb1 hu1 hVI H locs ls hW hl
      have hWn := hWk.fn hFk e0 en el
      have hT_k := hWn.2.2.1
      have hP_k := hWn.2.2.2.1
      obtain ⟨mcT_k, nT_k, fT_k, eT_k, bT_k, -⟩ := id hT_k
      obtain ⟨mcP_k, nP_k, fP_k, eP_k, bP_k, -⟩ := id hP_k
      have hv0_k := hI.1
      have hv1_k := hI.2.1
      refine lv_iload_n F.x F.cd dX10_visit_32 rfl (lv_at hl 3 rfl) ?_
      refine lv_aload_n F.x F.cd dX10_visit_33 rfl (lv_at hl 0 rfl) ?_
      refine s_get F hW (ci := 13) (C := RX10) (T := TX10) (N := 5) (v := .ref (L 0)) (e1) rfl in_X10 4 (by decide) q722 (fun _ h9 => h9) rfl dX10_visit_34 ?_
      refine s_getN F hW (ci := 1) (C := RX2) (T := TX2) (N := 6) (v := .ref (L 2)) (hWn.1) rfl in_X2 1 (by decide) q164 (fun _ h9 => h9) rfl dX10_visit_37 ?_
      refine s_callF (As := []) (rest := [.int (nI k)]) (C := RJ2) (T := TJ2) (N := 3) (n := 0) F hW (k_J2_size g l σk _ _ _ _ hP_k) (eP_k) rfl (List.mem_of_getElem? (i := 0) rfl) q715 q272 q274 q72 q276 (by decide +kernel) rfl ⟨⟨Nat.le_of_ble_eq_true rfl, Nat.le_of_ble_eq_true rfl⟩, ⟨(Nat.le_of_ble_eq_true rfl), (Nat.le_of_ble_eq_true rfl)⟩⟩ (Nat.le_of_ble_eq_true rfl) hl.1 rfl dX10_visit_40 cX_no (fun r26 σ26 H locs hp26 hW => ?_)
      obtain ⟨rfl, hs26⟩ := hp26
      rw [hs26] at hW
      refine W.eq (g2 := F0 m_ 45 ls (.int (nI (v 1)) :: .int (nI k) :: [])) rfl ?_
      refine n_icmp_ge (a := k) (b := v 1) (tgt := 110) F (by omega) (by omega) dX10_visit_45 (by decide) (fun c_45 => ?_) (fun c_45 => ?_)
      · subst hQ
        exact s_retv F hW (⟨rfl, _, _, _, _, e1, en1, el1, hFk, hb1, VI.done hp (by rw [← show k = v 1 by omega]; exact hVI)⟩) ⟨(Nat.le_of_ble_eq_true rfl), (Nat.le_of_ble_eq_true rfl)⟩ dX10_visit_110
      · exact absurd c_45 (by omega)
    | succ n ih32 =>
      intro k σk num1 low1 nx1 br1 hkn e1 en1 el1 hFk hb1 hu1 hVI H locs ls hW hl
      have hWn := hWk.fn hFk e0 en el
      have hT_k := hWn.2.2.1
      have hP_k := hWn.2.2.2.1
      obtain ⟨mcT_k, nT_k, fT_k, eT_k, bT_k, -⟩ := id hT_k
      obtain ⟨mcP_k, nP_k, fP_k, eP_k, bP_k, -⟩ := id hP_k
      have hv0_k := hI.1
      have hv1_k := hI.2.1
      refine lv_iload_n F.x F.cd dX10_visit_32 rfl (lv_at hl 3 rfl) ?_
      refine lv_aload_n F.x F.cd dX10_visit_33 rfl (lv_at hl 0 rfl) ?_
      refine s_get F hW (ci := 13) (C := RX10) (T := TX10) (N := 5) (v := .ref (L 0)) (e1) rfl in_X10 4 (by decide) q722 (fun _ h9 => h9) rfl dX10_visit_34 ?_
      refine s_getN F hW (ci := 1) (C := RX2) (T := TX2) (N := 6) (v := .ref (L 2)) (hWn.1) rfl in_X2 1 (by decide) q164 (fun _ h9 => h9) rfl dX10_visit_37 ?_
      refine s_callF (As := []) (rest := [.int (nI k)]) (C := RJ2) (T := TJ2) (N := 3) (n := 0) F hW (k_J2_size g l σk _ _ _ _ hP_k) (eP_k) rfl (List.mem_of_getElem? (i := 0) rfl) q715 q272 q274 q72 q276 (by decide +kernel) rfl ⟨⟨Nat.le_of_ble_eq_true rfl, Nat.le_of_ble_eq_true rfl⟩, ⟨(Nat.le_of_ble_eq_true rfl), (Nat.le_of_ble_eq_true rfl)⟩⟩ (Nat.le_of_ble_eq_true rfl) hl.1 rfl dX10_visit_40 cX_no (fun r27 σ27 H locs hp27 hW => ?_)
      obtain ⟨rfl, hs27⟩ := hp27
      rw [hs27] at hW
      refine W.eq (g2 := F0 m_ 45 ls (.int (nI (v 1)) :: .int (nI k) :: [])) rfl ?_
      refine n_icmp_ge (a := k) (b := v 1) (tgt := 110) F (by omega) (by omega) dX10_visit_45 (by decide) (fun c_45 => ?_) (fun c_45 => ?_)
      · exact absurd c_45 (by omega)
      · have hpq := hI.pp (q := k) (by omega)
        refine lv_iload_n F.x F.cd dX10_visit_48 rfl (lv_at hl 3 rfl) ?_
        refine lv_iload_n F.x F.cd dX10_visit_49 rfl (lv_at hl 2 rfl) ?_
        refine lv_icmp_eq (x := (nI k)) (y := c) (tgt := 104) F.x F.cd dX10_visit_50 (by decide) (fun c_50 => ?_) (fun c_50 => ?_)
        · refine lv_iinc (k := 3) (v := (nI (k + 1))) (lv' := [(3, .int (nI (k + 1))), (0, .ref h), (1, .int (nI t)), (2, .int c)]) F.x F.cd dX10_visit_104 hl rfl (inc_nI k 1) (by decide) rfl (fun ls hl => ?_)
          refine lv_goto (tgt := 32) F.x F.cd dX10_visit_107 (by decide) ?_
          exact ih32 (k + 1) σk num1 low1 nx1 br1 (by omega) (e1) (en1) (el1) (hFk) (hb1) (hu1) (hVI.skip (Or.inl c_50)) H locs ls hW (lv_sub hl [1, 2, 3, 0] rfl)
        · refine lv_aload_n F.x F.cd dX10_visit_53 rfl (lv_at hl 0 rfl) ?_
          refine s_get F hW (ci := 13) (C := RX10) (T := TX10) (N := 5) (v := .ref (L 0)) (e1) rfl in_X10 4 (by decide) q722 (fun _ h9 => h9) rfl dX10_visit_54 ?_
          refine s_getN F hW (ci := 1) (C := RX2) (T := TX2) (N := 6) (v := .ref (L 2)) (hWn.1) rfl in_X2 1 (by decide) q164 (fun _ h9 => h9) rfl dX10_visit_57 ?_
          refine lv_iload_n F.x F.cd dX10_visit_60 rfl (lv_at hl 3 rfl) ?_
          refine s_callF (As := [.int (nI k)]) (rest := []) (C := RJ2) (T := TJ2) (N := 3) (n := 1) F hW (k_J2_get g l σk _ _ _ _ k hP_k (by omega)) (eP_k) rfl (List.mem_of_getElem? (i := 1) rfl) q739 q328 q330 q72 q332 (by decide +kernel) rfl ⟨⟨Nat.le_of_ble_eq_true rfl, Nat.le_of_ble_eq_true rfl⟩, ⟨(Nat.le_of_ble_eq_true rfl), (Nat.le_of_ble_eq_true rfl)⟩⟩ (Nat.le_of_ble_eq_true rfl) hl.1 rfl dX10_visit_61 cX_no (fun r28 σ28 H locs hp28 hW => ?_)
          obtain ⟨rfl, hs28⟩ := hp28
          rw [hs28] at hW
          refine W.eq (g2 := F0 m_ 66 ls (.ref (L (100 + k)) :: [])) rfl ?_
          refine s_cast_ F hW (C := RX5) (T := TX5) (N := 7) ((hWn.2.2.2.2.2.1 k (by omega)).1) rfl q740 dX10_visit_66 ?_
          refine s_callV (As := []) (rest := []) (C := RX5) (T := TX5) (N := 7) (n := 0) F hW (k_X5_isOpen g l σk (L (100 + k)) (pA v k) (pB v k) (pM v k) (pV v k) (pR v k) (pD v k) (pL v k) ((hWn.2.2.2.2.2.1 k (by omega)).1) (by omega) (by omega)) ((hWn.2.2.2.2.2.1 k (by omega)).1) rfl q741 q672 q673 q96 q674 rfl (by decide +kernel) rfl ⟨⟨Nat.le_of_ble_eq_true rfl, Nat.le_of_ble_eq_true rfl⟩, ⟨(Nat.le_of_ble_eq_true rfl), (Nat.le_of_ble_eq_true rfl)⟩⟩ (Nat.le_of_ble_eq_true rfl) hl.1 rfl dX10_visit_69 cX_no (fun r29 σ29 H locs hp29 hW => ?_)
          obtain ⟨rfl, hs29⟩ := hp29
          rw [hs29] at hW
          refine W.eq (g2 := F0 m_ 72 ls (.int (bI (opn (pV v k) (pD v k))) :: [])) rfl ?_
          refine b_if_eq (b := (opn (pV v k) (pD v k))) (tgt := 104) F dX10_visit_72 (by decide) (fun c_72 => ?_) (fun c_72 => ?_)
          · refine lv_iinc (k := 3) (v := (nI (k + 1))) (lv' := [(3, .int (nI (k + 1))), (0, .ref h), (1, .int (nI t)), (2, .int c)]) F.x F.cd dX10_visit_104 hl rfl (inc_nI k 1) (by decide) rfl (fun ls hl => ?_)
            refine lv_goto (tgt := 32) F.x F.cd dX10_visit_107 (by decide) ?_
            exact ih32 (k + 1) σk num1 low1 nx1 br1 (by omega) (e1) (en1) (el1) (hFk) (hb1) (hu1) (hVI.skip (Or.inr (fun z hz => by rw [hz.1] at c_72; cases c_72))) H locs ls hW (lv_sub hl [1, 2, 3, 0] rfl)
          · refine lv_aload_n F.x F.cd dX10_visit_75 rfl (lv_at hl 0 rfl) ?_
            refine s_get F hW (ci := 13) (C := RX10) (T := TX10) (N := 5) (v := .ref (L 0)) (e1) rfl in_X10 4 (by decide) q722 (fun _ h9 => h9) rfl dX10_visit_76 ?_
            refine s_getN F hW (ci := 1) (C := RX2) (T := TX2) (N := 6) (v := .ref (L 2)) (hWn.1) rfl in_X2 1 (by decide) q164 (fun _ h9 => h9) rfl dX10_visit_79 ?_
            refine lv_iload_n F.x F.cd dX10_visit_82 rfl (lv_at hl 3 rfl) ?_
            refine s_callF (As := [.int (nI k)]) (rest := []) (C := RJ2) (T := TJ2) (N := 3) (n := 1) F hW (k_J2_get g l σk _ _ _ _ k hP_k (by omega)) (eP_k) rfl (List.mem_of_getElem? (i := 1) rfl) q739 q328 q330 q72 q332 (by decide +kernel) rfl ⟨⟨Nat.le_of_ble_eq_true rfl, Nat.le_of_ble_eq_true rfl⟩, ⟨(Nat.le_of_ble_eq_true rfl), (Nat.le_of_ble_eq_true rfl)⟩⟩ (Nat.le_of_ble_eq_true rfl) hl.1 rfl dX10_visit_83 cX_no (fun r30 σ30 H locs hp30 hW => ?_)
            obtain ⟨rfl, hs30⟩ := hp30
            rw [hs30] at hW
            refine W.eq (g2 := F0 m_ 88 ls (.ref (L (100 + k)) :: [])) rfl ?_
            refine s_cast_ F hW (C := RX5) (T := TX5) (N := 7) ((hWn.2.2.2.2.2.1 k (by omega)).1) rfl q740 dX10_visit_88 ?_
            refine lv_iload_n F.x F.cd dX10_visit_91 rfl (lv_at hl 1 rfl) ?_
            refine s_callV (As := [.int (nI t)]) (rest := []) (C := RX5) (T := TX5) (N := 7) (n := 1) F hW (k_X5_touches g l σk (L (100 + k)) (pA v k) (pB v k) (pM v k) (pV v k) (pR v k) (pD v k) (pL v k) t ((hWn.2.2.2.2.2.1 k (by omega)).1) (by omega) (by omega) (by omega)) ((hWn.2.2.2.2.2.1 k (by omega)).1) rfl q742 q676 q677 q96 q678 rfl (by decide +kernel) rfl ⟨⟨Nat.le_of_ble_eq_true rfl, Nat.le_of_ble_eq_true rfl⟩, ⟨(Nat.le_of_ble_eq_true rfl), (Nat.le_of_ble_eq_true rfl)⟩⟩ (Nat.le_of_ble_eq_true rfl) hl.1 rfl dX10_visit_92 cX_no (fun r31 σ31 H locs hp31 hW => ?_)
            obtain ⟨rfl, hs31⟩ := hp31
            rw [hs31] at hW
            refine W.eq (g2 := F0 m_ 95 ls (.int (bI (tch (pA v k) (pB v k) t)) :: [])) rfl ?_
            refine b_if_eq (b := (tch (pA v k) (pB v k) t)) (tgt := 104) F dX10_visit_95 (by decide) (fun c_95 => ?_) (fun c_95 => ?_)
            · refine lv_iinc (k := 3) (v := (nI (k + 1))) (lv' := [(3, .int (nI (k + 1))), (0, .ref h), (1, .int (nI t)), (2, .int c)]) F.x F.cd dX10_visit_104 hl rfl (inc_nI k 1) (by decide) rfl (fun ls hl => ?_)
              refine lv_goto (tgt := 32) F.x F.cd dX10_visit_107 (by decide) ?_
              exact ih32 (k + 1) σk num1 low1 nx1 br1 (by omega) (e1) (en1) (el1) (hFk) (hb1) (hu1) (hVI.skip (Or.inr (fun z hz => by have h9 := hz.2; rw [show tch (pA v k) (pB v k) t = true from decide_eq_true (h9.elim (fun h => Or.inl h.1) (fun h => Or.inr h.1))] at c_95; cases c_95))) H locs ls hW (lv_sub hl [1, 2, 3, 0] rfl)
            · refine lv_aload_n F.x F.cd dX10_visit_98 rfl (lv_at hl 0 rfl) ?_
              refine lv_iload_n F.x F.cd dX10_visit_99 rfl (lv_at hl 1 rfl) ?_
              refine lv_iload_n F.x F.cd dX10_visit_100 rfl (lv_at hl 3 rfl) ?_
              refine s_callV (As := [.int (nI t), .int (nI k)]) (rest := []) (C := RX10) (T := TX10) (N := 5) (n := 2) F hW (k_X10_follow_1 g l σk L v h na la t nx br c num low num1 low1 nx1 br1 k hWn hI e1 en1 el1 bh bn bl hnl hp hVI (by omega) c_50 ⟨c_72, tch_oth c_95 (hI.pp (show k < v 1 by omega)).2.2.1⟩ hu1 hb1) (e1) rfl q743 q745 qs4 q108 q746 rfl (by decide +kernel) rfl ⟨⟨Nat.le_of_ble_eq_true rfl, Nat.le_of_ble_eq_true rfl⟩, ⟨(Nat.le_of_ble_eq_true rfl), (Nat.le_of_ble_eq_true rfl)⟩⟩ (Nat.le_of_ble_eq_true rfl) hl.1 rfl dX10_visit_101 cX_no (fun r32 σ32 H locs hp32 hW => ?_)
              obtain ⟨rfl, num2, low2, nx2, br2, e2, en2, el2, hF2, hb2, hm2, hVI2⟩ := hp32
              refine W.eq (g2 := F0 m_ 104 ls ([])) rfl ?_
              refine lv_iinc (k := 3) (v := (nI (k + 1))) (lv' := [(3, .int (nI (k + 1))), (0, .ref h), (1, .int (nI t)), (2, .int c)]) F.x F.cd dX10_visit_104 hl rfl (inc_nI k 1) (by decide) rfl (fun ls hl => ?_)
              refine lv_goto (tgt := 32) F.x F.cd dX10_visit_107 (by decide) ?_
              exact ih32 (k + 1) σ32 num2 low2 nx2 br2 (by omega) (e2) (en2) (el2) (hFk.trans hF2) (hb2) (Nat.le_trans (unvN_le (fun y hy => decide_eq_true (hm2 y (of_decide_eq_true hy))) 8) hu1) (hVI2) H locs ls hW (lv_sub hl [1, 2, 3, 0] rfl)
  exact loop32 (v 1) 0 _ _ _ _ _ (by omega) (w18) (f24) (f25) (by rw [hσ18, hσ9, hσ1]; exact ((Fn.refl.set (Or.inr (Or.inl rfl))).set (Or.inr (Or.inr rfl))).set (Or.inl rfl)) (by have h9 := hlt9; omega) (by have h9 := hlt9; omega) (VI.start hI hp) H locs ls hW (lv_sub hl [1, 2, 3, 0] rfl)
set_option maxHeartbeats 4000000 in
theorem k_X10_follow_2 (g : Gh) (l : Launch) (σ : Sto) (L v : Nat → Nat) (h na la t nx br : Nat) (c : Int32) (num low : Nat → Nat) (num1 low1 : Nat → Nat) (nx1 br1 k : Nat) (hWk : IsWorks g σ L v) (hI : Inv v) (e0 : σ h = some (.inr (13, [.ref na, .ref la, .int (nI nx1), .int (nI br1), .ref (L 0)]))) (en : σ na = some (eI g 0 (v 0) (fun x9 => nI (num1 x9)))) (el : σ la = some (eI g 0 (v 0) (fun x9 => nI (low1 x9)))) (bh : gB g ≤ h) (bn : gB g ≤ na) (bl : gB g ≤ la) (hnl : na ≠ la) (hp : VPre v num nx t c) (hVI : VI v c num low nx br t num1 low1 nx1 br1 k) (hk : k < v 1) (hc0 : nI k ≠ c) (he0 : edg v k t (oth (pA v k) (pB v k) t)) (hun : unvN (fun y => decide (0 < num1 y)) 8 ≤ 1) (hnx : nx1 + unvN (fun y => decide (0 < num1 y)) 8 ≤ 9) : Ct g l yX10_follow cX10_follow 4 none ({ frames := 5, cells := 0, slots := 0, locals := 110 } : Room) [.ref h, .int (nI t), .int (nI k)] σ (fun r σ' => r = none ∧ ∃ (num' low' : Nat → Nat) (nx' br' : Nat), σ' h = some (.inr (13, [.ref na, .ref la, .int (nI nx'), .int (nI br'), .ref (L 0)])) ∧ σ' na = some (eI g 0 (v 0) (fun x9 => nI (num' x9))) ∧ σ' la = some (eI g 0 (v 0) (fun x9 => nI (low' x9))) ∧ Fn σ σ' h na la ∧ nx' + unvN (fun y => decide (0 < num' y)) 8 ≤ 9 ∧ (∀ y, 0 < num1 y → 0 < num' y) ∧ VI v c num low nx br t num' low' nx' br' (k + 1)) (nox) := by
  refine Ct.body (by decide) (Nat.le_of_ble_eq_true rfl) ?_
  intro p_ e_ s_ m_ args_ below_ meth_ c_ ls H locs Q F hW hl hQ
  have hl : lv_has ls 4 [(0, .ref h), (1, .int (nI t)), (2, .int (nI k))] := hl
  have hT := hWk.2.2.1
  have hP := hWk.2.2.2.1
  obtain ⟨mcT, nT, fT, eT, bT, -⟩ := id hT
  obtain ⟨mcP, nP, fP, eP, bP, -⟩ := id hP
  have hv0 := hI.1
  have hv1 := hI.2.1
  have hpq := hI.pp hk
  have htv := hp.2.1
  have hov := oth_lt (t := t) hpq.1 hpq.2.1
  have hnb := fun y => hVI.2.2.2.1.2 y
  have hno := hnb (oth (pA v k) (pB v k) t)
  have hlt := hVI.2.2.2.2.2.2.2.1.1
  have hnn := hVI.2.2.2.1.1
  refine lv_aload_n F.x F.cd dX10_follow_0 rfl (lv_at hl 0 rfl) ?_
  refine s_get F hW (ci := 13) (C := RX10) (T := TX10) (N := 5) (v := .ref (L 0)) (e0) rfl in_X10 4 (by decide) q722 (fun _ h9 => h9) rfl dX10_follow_1 ?_
  refine s_getN F hW (ci := 1) (C := RX2) (T := TX2) (N := 6) (v := .ref (L 2)) (hWk.1) rfl in_X2 1 (by decide) q164 (fun _ h9 => h9) rfl dX10_follow_4 ?_
  refine lv_iload_n F.x F.cd dX10_follow_7 rfl (lv_at hl 2 rfl) ?_
  refine s_callF (As := [.int (nI k)]) (rest := []) (C := RJ2) (T := TJ2) (N := 3) (n := 1) F hW (k_J2_get g l σ _ _ _ _ k hP (by omega)) (eP) rfl (List.mem_of_getElem? (i := 1) rfl) q739 q328 q330 q72 q332 (by decide +kernel) rfl ⟨⟨Nat.le_of_ble_eq_true rfl, Nat.le_of_ble_eq_true rfl⟩, ⟨(Nat.le_of_ble_eq_true rfl), (Nat.le_of_ble_eq_true rfl)⟩⟩ (Nat.le_of_ble_eq_true rfl) hl.1 rfl dX10_follow_8 cX_no (fun r1 σ1 H locs hp1 hW => ?_)
  obtain ⟨rfl, hs1⟩ := hp1
  rw [hs1] at hW
  refine W.eq (g2 := F0 m_ 13 ls (.ref (L (100 + k)) :: [])) rfl ?_
  refine s_cast_ F hW (C := RX5) (T := TX5) (N := 7) ((hWk.2.2.2.2.2.1 k (by omega)).1) rfl q740 dX10_follow_13 ?_
  refine lv_iload_n F.x F.cd dX10_follow_16 rfl (lv_at hl 1 rfl) ?_
  refine s_callV (As := [.int (nI t)]) (rest := []) (C := RX5) (T := TX5) (N := 7) (n := 1) F hW (k_X5_otherEnd g l σ (L (100 + k)) (pA v k) (pB v k) (pM v k) (pV v k) (pR v k) (pD v k) (pL v k) t ((hWk.2.2.2.2.2.1 k (by omega)).1) (by omega) (by omega)) ((hWk.2.2.2.2.2.1 k (by omega)).1) rfl q747 q680 q681 q96 q682 rfl (by decide +kernel) rfl ⟨⟨Nat.le_of_ble_eq_true rfl, Nat.le_of_ble_eq_true rfl⟩, ⟨(Nat.le_of_ble_eq_true rfl), (Nat.le_of_ble_eq_true rfl)⟩⟩ (Nat.le_of_ble_eq_true rfl) hl.1 rfl dX10_follow_17 cX_no (fun r2 σ2 H locs hp2 hW => ?_)
  obtain ⟨rfl, hs2⟩ := hp2
  rw [hs2] at hW
  refine W.eq (g2 := F0 m_ 20 ls (.int (nI (oth (pA v k) (pB v k) t)) :: [])) rfl ?_
  refine lv_istore_n (lv' := [(3, .int (nI (oth (pA v k) (pB v k) t))), (0, .ref h), (1, .int (nI t)), (2, .int (nI k))]) F.x F.cd dX10_follow_20 rfl hl (by decide) rfl (fun ls hl => ?_)
  refine lv_aload_n F.x F.cd dX10_follow_21 rfl (lv_at hl 1 rfl) ?_
  refine s_get F hW (ci := 13) (C := RX10) (T := TX10) (N := 5) (v := .ref na) (e0) rfl in_X10 0 (by decide) q716 (fun _ h9 => h9) rfl dX10_follow_22 ?_
  refine lv_iload_n F.x F.cd dX10_follow_25 rfl (lv_at hl 0 rfl) ?_
  refine n_iald (i := oth (pA v k) (pB v k) t) (n := v 0) (f := (fun x9 => nI (num1 x9))) (x := (nI (num1 (oth (pA v k) (pB v k) t)))) F hW (en) (hov) (by omega) (rfl) dX10_follow_26 ?_
  refine n_if_le (a := num1 (oth (pA v k) (pB v k) t)) (tgt := 54) F (by omega) dX10_follow_27 (by decide) (fun c_27 => ?_) (fun c_27 => ?_)
  · refine lv_aload_n F.x F.cd dX10_follow_54 rfl (lv_at hl 1 rfl) ?_
    refine lv_iload_n F.x F.cd dX10_follow_55 rfl (lv_at hl 0 rfl) ?_
    refine lv_iload_n F.x F.cd dX10_follow_56 rfl (lv_at hl 3 rfl) ?_
    refine s_callV (As := [.int (nI (oth (pA v k) (pB v k) t)), .int (nI k)]) (rest := []) (C := RX10) (T := TX10) (N := 5) (n := 2) F hW (k_X10_visit_1 g l σ L v h na la (oth (pA v k) (pB v k) t) nx1 br1 (nI k) num1 low1 hWk hI e0 en el bh bn bl hnl (hVI.pre hI hp hk he0 c_27) (by omega) (by omega)) (e0) rfl q749 q735 q736 q108 q737 rfl (by decide +kernel) rfl ⟨⟨Nat.le_of_ble_eq_true rfl, Nat.le_of_ble_eq_true rfl⟩, ⟨(Nat.le_of_ble_eq_true rfl), (Nat.le_of_ble_eq_true rfl)⟩⟩ (Nat.le_of_ble_eq_true rfl) hl.1 rfl dX10_follow_57 cX_no (fun r3 σ3 H locs hp3 hW => ?_)
    obtain ⟨rfl, num2, low2, nx2, br2, e2, en2, el2, hF2, hb2, hP2⟩ := hp3
    refine W.eq (g2 := F0 m_ 60 ls ([])) rfl ?_
    have hlo2 := hP2.2.2.2.2.2.2.1.1
    have hlt2 := (hP2.2.1 t (by rw [hVI.1]; exact hp.2.2.1))
    have hnt2 := hP2.2.2.2.1.2 t
    have hl22 := hlt2.2
    rw [← hl22] at hlt
    refine lv_aload_n F.x F.cd dX10_follow_60 rfl (lv_at hl 1 rfl) ?_
    refine s_get F hW (ci := 13) (C := RX10) (T := TX10) (N := 5) (v := .ref la) (e2) rfl in_X10 1 (by decide) q718 (fun _ h9 => h9) rfl dX10_follow_61 ?_
    refine lv_iload_n F.x F.cd dX10_follow_64 rfl (lv_at hl 2 rfl) ?_
    refine lv_aload_n F.x F.cd dX10_follow_65 rfl (lv_at hl 1 rfl) ?_
    refine s_get F hW (ci := 13) (C := RX10) (T := TX10) (N := 5) (v := .ref la) (e2) rfl in_X10 1 (by decide) q718 (fun _ h9 => h9) rfl dX10_follow_66 ?_
    refine lv_iload_n F.x F.cd dX10_follow_69 rfl (lv_at hl 2 rfl) ?_
    refine n_iald (i := t) (n := v 0) (f := (fun x9 => nI (low2 x9))) (x := (nI (low2 t))) F hW (el2) (by omega) (by omega) (rfl) dX10_follow_70 ?_
    refine lv_aload_n F.x F.cd dX10_follow_71 rfl (lv_at hl 1 rfl) ?_
    refine s_get F hW (ci := 13) (C := RX10) (T := TX10) (N := 5) (v := .ref la) (e2) rfl in_X10 1 (by decide) q718 (fun _ h9 => h9) rfl dX10_follow_72 ?_
    refine lv_iload_n F.x F.cd dX10_follow_75 rfl (lv_at hl 0 rfl) ?_
    refine n_iald (i := oth (pA v k) (pB v k) t) (n := v 0) (f := (fun x9 => nI (low2 x9))) (x := (nI (low2 (oth (pA v k) (pB v k) t)))) F hW (el2) (by omega) (by omega) (rfl) dX10_follow_76 ?_
    refine s_mmin (v := (nI (min (low2 t) (low2 (oth (pA v k) (pB v k) t))))) F q748 q453 q87 q454 hl.1 (Nat.le_of_ble_eq_true rfl) (Nat.le_of_ble_eq_true rfl) (Nat.le_of_ble_eq_true rfl) (Nat.le_of_ble_eq_true rfl) (nI_min (by omega) (by omega)) dX10_follow_77 ?_
    refine n_iastN (i := t) F hW (el2) (bl) (by omega) (by omega) dX10_follow_80 (fun H locs hW => ?_)
    obtain ⟨σ4, hσ4⟩ : ∃ z, z = sset σ3 la (eI g 0 (v 0) (fun x9 => nI ((va_up low2 t (min (low2 t) (low2 (oth (pA v k) (pB v k) t)))) x9))) := ⟨_, rfl⟩
    have hW : Hl g σ4 H locs := by rw [hσ4]; exact hW
    have w4 : σ4 la = some (eI g 0 (v 0) (fun x9 => nI ((va_up low2 t (min (low2 t) (low2 (oth (pA v k) (pB v k) t)))) x9))) := by rw [hσ4]; exact sset_eq
    have f5 : σ4 h = some (.inr (13, [.ref na, .ref la, .int (nI nx2), .int (nI br2), .ref (L 0)])) := by rw [hσ4, sset_ne (sto_ne el2 e2 (by simp))]; exact e2
    have f6 : σ4 na = some (eI g 0 (v 0) (fun x9 => nI (num2 x9))) := by rw [hσ4, sset_ne (hnl)]; exact en2
    have hvo : (va_up low2 t (min (low2 t) (low2 (oth (pA v k) (pB v k) t)))) (oth (pA v k) (pB v k) t) = low2 (oth (pA v k) (pB v k) t) := va_up_ne _ _ (edg.ne hI hk he0).symm
    refine lv_aload_n F.x F.cd dX10_follow_81 rfl (lv_at hl 1 rfl) ?_
    refine lv_dup F.x F.cd dX10_follow_82 rfl ?_
    refine s_get F hW (ci := 13) (C := RX10) (T := TX10) (N := 5) (v := .int (nI br2)) (f5) rfl in_X10 3 (by decide) q720 (fun _ h9 => h9) rfl dX10_follow_83 ?_
    refine lv_aload_n F.x F.cd dX10_follow_86 rfl (lv_at hl 1 rfl) ?_
    refine s_get F hW (ci := 13) (C := RX10) (T := TX10) (N := 5) (v := .ref la) (f5) rfl in_X10 1 (by decide) q718 (fun _ h9 => h9) rfl dX10_follow_87 ?_
    refine lv_iload_n F.x F.cd dX10_follow_90 rfl (lv_at hl 0 rfl) ?_
    refine n_iald (i := oth (pA v k) (pB v k) t) (n := v 0) (f := (fun x9 => nI ((va_up low2 t (min (low2 t) (low2 (oth (pA v k) (pB v k) t)))) x9))) (x := (nI ((va_up low2 t (min (low2 t) (low2 (oth (pA v k) (pB v k) t)))) (oth (pA v k) (pB v k) t)))) F hW (w4) (by omega) (by omega) (rfl) dX10_follow_91 ?_
    refine lv_aload_n F.x F.cd dX10_follow_92 rfl (lv_at hl 1 rfl) ?_
    refine s_get F hW (ci := 13) (C := RX10) (T := TX10) (N := 5) (v := .ref na) (f5) rfl in_X10 0 (by decide) q716 (fun _ h9 => h9) rfl dX10_follow_93 ?_
    refine lv_iload_n F.x F.cd dX10_follow_96 rfl (lv_at hl 2 rfl) ?_
    refine n_iald (i := t) (n := v 0) (f := (fun x9 => nI (num2 x9))) (x := (nI (num2 t))) F hW (f6) (by omega) (by omega) (rfl) dX10_follow_97 ?_
    refine n_icmp_le (a := (va_up low2 t (min (low2 t) (low2 (oth (pA v k) (pB v k) t)))) (oth (pA v k) (pB v k) t)) (b := num2 t) (tgt := 105) F (by omega) (by omega) dX10_follow_98 (by decide) (fun c_98 => ?_) (fun c_98 => ?_)
    · refine lv_iconst (v := (nI 0)) F.x F.cd dX10_follow_105 (by decide) ?_
      refine W.eq (g2 := F0 m_ 106 ls (.int (nI (if num2 t < low2 (oth (pA v k) (pB v k) t) then 1 else 0)) :: .int (nI br2) :: .ref h :: [])) (by rw [if_neg (by omega)]) ?_
      refine a_iadd (v := (nI (br2 + (if num2 t < low2 (oth (pA v k) (pB v k) t) then 1 else 0)))) F (nI_add _ _) dX10_follow_106 ?_
      refine s_put F hW (ci := 13) (C := RX10) (T := TX10) (N := 5) (v := .int (nI (br2 + (if num2 t < low2 (oth (pA v k) (pB v k) t) then 1 else 0)))) (ty := .int) (f5) (bh) rfl in_X10 tyX10_ok nmX10 3 (by decide) q720 (fun _ h9 => h9) rfl (by decide +kernel) rfl rfl (Nat.le_of_ble_eq_true rfl) dX10_follow_107 (fun H locs hW => ?_)
      obtain ⟨σ8, hσ8⟩ : ∃ z, z = sset σ4 h (.inr (13, [.ref na, .ref la, .int (nI nx2), .int (nI (br2 + (if num2 t < low2 (oth (pA v k) (pB v k) t) then 1 else 0))), .ref (L 0)])) := ⟨_, rfl⟩
      have hW : Hl g σ8 H locs := by rw [hσ8]; exact hW
      have w8 : σ8 h = some (.inr (13, [.ref na, .ref la, .int (nI nx2), .int (nI (br2 + (if num2 t < low2 (oth (pA v k) (pB v k) t) then 1 else 0))), .ref (L 0)])) := by rw [hσ8]; exact sset_eq
      have f9 : σ8 na = some (eI g 0 (v 0) (fun x9 => nI (num2 x9))) := by rw [hσ8, sset_ne (sto_ne f5 f6 (by simp))]; exact f6
      have f10 : σ8 la = some (eI g 0 (v 0) (fun x9 => nI ((va_up low2 t (min (low2 t) (low2 (oth (pA v k) (pB v k) t)))) x9))) := by rw [hσ8, sset_ne (sto_ne f5 w4 (by simp))]; exact w4
      subst hQ
      exact s_retv F hW (⟨rfl, _, _, _, _, w8, f9, f10, by rw [hσ8, hσ4]; exact (hF2.set (Or.inr (Or.inr rfl))).set (Or.inl rfl), hb2, fun y hy => by rw [(hP2.2.1 y hy).1]; exact hy, hVI.tree hI hp hk hc0 he0 c_27 hP2⟩) ⟨(Nat.le_of_ble_eq_true rfl), (Nat.le_of_ble_eq_true rfl)⟩ dX10_follow_110
    · refine lv_iconst (v := (nI 1)) F.x F.cd dX10_follow_101 (by decide) ?_
      refine lv_goto (tgt := 106) F.x F.cd dX10_follow_102 (by decide) ?_
      refine W.eq (g2 := F0 m_ 106 ls (.int (nI (if num2 t < low2 (oth (pA v k) (pB v k) t) then 1 else 0)) :: .int (nI br2) :: .ref h :: [])) (by rw [if_pos (by omega)]) ?_
      refine a_iadd (v := (nI (br2 + (if num2 t < low2 (oth (pA v k) (pB v k) t) then 1 else 0)))) F (nI_add _ _) dX10_follow_106 ?_
      refine s_put F hW (ci := 13) (C := RX10) (T := TX10) (N := 5) (v := .int (nI (br2 + (if num2 t < low2 (oth (pA v k) (pB v k) t) then 1 else 0)))) (ty := .int) (f5) (bh) rfl in_X10 tyX10_ok nmX10 3 (by decide) q720 (fun _ h9 => h9) rfl (by decide +kernel) rfl rfl (Nat.le_of_ble_eq_true rfl) dX10_follow_107 (fun H locs hW => ?_)
      obtain ⟨σ12, hσ12⟩ : ∃ z, z = sset σ4 h (.inr (13, [.ref na, .ref la, .int (nI nx2), .int (nI (br2 + (if num2 t < low2 (oth (pA v k) (pB v k) t) then 1 else 0))), .ref (L 0)])) := ⟨_, rfl⟩
      have hW : Hl g σ12 H locs := by rw [hσ12]; exact hW
      have w12 : σ12 h = some (.inr (13, [.ref na, .ref la, .int (nI nx2), .int (nI (br2 + (if num2 t < low2 (oth (pA v k) (pB v k) t) then 1 else 0))), .ref (L 0)])) := by rw [hσ12]; exact sset_eq
      have f13 : σ12 na = some (eI g 0 (v 0) (fun x9 => nI (num2 x9))) := by rw [hσ12, sset_ne (sto_ne f5 f6 (by simp))]; exact f6
      have f14 : σ12 la = some (eI g 0 (v 0) (fun x9 => nI ((va_up low2 t (min (low2 t) (low2 (oth (pA v k) (pB v k) t)))) x9))) := by rw [hσ12, sset_ne (sto_ne f5 w4 (by simp))]; exact w4
      subst hQ
      exact s_retv F hW (⟨rfl, _, _, _, _, w12, f13, f14, by rw [hσ12, hσ4]; exact (hF2.set (Or.inr (Or.inr rfl))).set (Or.inl rfl), hb2, fun y hy => by rw [(hP2.2.1 y hy).1]; exact hy, hVI.tree hI hp hk hc0 he0 c_27 hP2⟩) ⟨(Nat.le_of_ble_eq_true rfl), (Nat.le_of_ble_eq_true rfl)⟩ dX10_follow_110
  · refine lv_aload_n F.x F.cd dX10_follow_30 rfl (lv_at hl 1 rfl) ?_
    refine s_get F hW (ci := 13) (C := RX10) (T := TX10) (N := 5) (v := .ref la) (e0) rfl in_X10 1 (by decide) q718 (fun _ h9 => h9) rfl dX10_follow_31 ?_
    refine lv_iload_n F.x F.cd dX10_follow_34 rfl (lv_at hl 2 rfl) ?_
    refine lv_aload_n F.x F.cd dX10_follow_35 rfl (lv_at hl 1 rfl) ?_
    refine s_get F hW (ci := 13) (C := RX10) (T := TX10) (N := 5) (v := .ref la) (e0) rfl in_X10 1 (by decide) q718 (fun _ h9 => h9) rfl dX10_follow_36 ?_
    refine lv_iload_n F.x F.cd dX10_follow_39 rfl (lv_at hl 2 rfl) ?_
    refine n_iald (i := t) (n := v 0) (f := (fun x9 => nI (low1 x9))) (x := (nI (low1 t))) F hW (el) (by omega) (by omega) (rfl) dX10_follow_40 ?_
    refine lv_aload_n F.x F.cd dX10_follow_41 rfl (lv_at hl 1 rfl) ?_
    refine s_get F hW (ci := 13) (C := RX10) (T := TX10) (N := 5) (v := .ref na) (e0) rfl in_X10 0 (by decide) q716 (fun _ h9 => h9) rfl dX10_follow_42 ?_
    refine lv_iload_n F.x F.cd dX10_follow_45 rfl (lv_at hl 0 rfl) ?_
    refine n_iald (i := oth (pA v k) (pB v k) t) (n := v 0) (f := (fun x9 => nI (num1 x9))) (x := (nI (num1 (oth (pA v k) (pB v k) t)))) F hW (en) (hov) (by omega) (rfl) dX10_follow_46 ?_
    refine s_mmin (v := (nI (min (low1 t) (num1 (oth (pA v k) (pB v k) t))))) F q748 q453 q87 q454 hl.1 (Nat.le_of_ble_eq_true rfl) (Nat.le_of_ble_eq_true rfl) (Nat.le_of_ble_eq_true rfl) (Nat.le_of_ble_eq_true rfl) (nI_min (by omega) (by omega)) dX10_follow_47 ?_
    refine n_iastN (i := t) F hW (el) (bl) (by omega) (by omega) dX10_follow_50 (fun H locs hW => ?_)
    obtain ⟨σ15, hσ15⟩ : ∃ z, z = sset σ la (eI g 0 (v 0) (fun x9 => nI ((va_up low1 t (min (low1 t) (num1 (oth (pA v k) (pB v k) t)))) x9))) := ⟨_, rfl⟩
    have hW : Hl g σ15 H locs := by rw [hσ15]; exact hW
    have w15 : σ15 la = some (eI g 0 (v 0) (fun x9 => nI ((va_up low1 t (min (low1 t) (num1 (oth (pA v k) (pB v k) t)))) x9))) := by rw [hσ15]; exact sset_eq
    have f16 : σ15 (L 0) = some (.inr (1, [.ref (L 1), .ref (L 2), .int (nI (v 2)), .int (nI (v 3)), .int (nI (v 4)), .int (nI (v 5))])) := by rw [hσ15, sset_ne (sto_ne el hWk.1 (by simp))]; exact hWk.1
    have f17 : σ15 (L 1) = some (.inr (2, [.int mcT, .ref (L 3), .int (nI (v 0))])) := by rw [hσ15, sset_ne (sto_ne el eT (by simp))]; exact eT
    have j18 := IsList.setI (e := eI g 0 (v 0) (fun x9 => nI ((va_up low1 t (min (low1 t) (num1 (oth (pA v k) (pB v k) t)))) x9))) (hT) (el)
    rw [← hσ15] at j18
    have f19 : σ15 (L 2) = some (.inr (2, [.int mcP, .ref (L 4), .int (nI (v 1))])) := by rw [hσ15, sset_ne (sto_ne el eP (by simp))]; exact eP
    have j20 := IsList.setI (e := eI g 0 (v 0) (fun x9 => nI ((va_up low1 t (min (low1 t) (num1 (oth (pA v k) (pB v k) t)))) x9))) (hP) (el)
    rw [← hσ15] at j20
    have f21 : σ15 h = some (.inr (13, [.ref na, .ref la, .int (nI nx1), .int (nI br1), .ref (L 0)])) := by rw [hσ15, sset_ne (sto_ne el e0 (by simp))]; exact e0
    have f22 : σ15 (L (100 + k)) = some (.inr (9, [.int (nI (pA v k)), .int (nI (pB v k)), .int (nI (pM v k)), .int (nI (pV v k)), .int (nI (pR v k)), .int (nI (pD v k)), .int (nI (pL v k))])) := by rw [hσ15, sset_ne (sto_ne el ((hWk.2.2.2.2.2.1 k (by omega)).1) (by simp))]; exact (hWk.2.2.2.2.2.1 k (by omega)).1
    have f23 : σ15 na = some (eI g 0 (v 0) (fun x9 => nI (num1 x9))) := by rw [hσ15, sset_ne (hnl)]; exact en
    refine lv_goto (tgt := 110) F.x F.cd dX10_follow_51 (by decide) ?_
    subst hQ
    exact s_retv F hW (⟨rfl, _, _, _, _, f21, f23, w15, by rw [hσ15]; exact Fn.refl.set (Or.inr (Or.inr rfl)), hnx, fun y hy => hy, hVI.back hI hp hk hc0 he0 (by omega)⟩) ⟨(Nat.le_of_ble_eq_true rfl), (Nat.le_of_ble_eq_true rfl)⟩ dX10_follow_110
set_option maxHeartbeats 4000000 in
theorem k_X10_visit_2 (g : Gh) (l : Launch) (σ : Sto) (L v : Nat → Nat) (h na la t nx br : Nat) (c : Int32) (num low : Nat → Nat) (hWk : IsWorks g σ L v) (hI : Inv v) (e0 : σ h = some (.inr (13, [.ref na, .ref la, .int (nI nx), .int (nI br), .ref (L 0)]))) (en : σ na = some (eI g 0 (v 0) (fun x9 => nI (num x9)))) (el : σ la = some (eI g 0 (v 0) (fun x9 => nI (low x9)))) (bh : gB g ≤ h) (bn : gB g ≤ na) (bl : gB g ≤ la) (hnl : na ≠ la) (hp : VPre v num nx t c) (hun : unvN (fun y => decide (0 < num y)) 8 ≤ 2) (hnx : nx + unvN (fun y => decide (0 < num y)) 8 ≤ 9) : Ct g l yX10_visit cX10_visit 4 none ({ frames := 6, cells := 0, slots := 0, locals := 133 } : Room) [.ref h, .int (nI t), .int c] σ (fun r σ' => r = none ∧ ∃ (num' low' : Nat → Nat) (nx' br' : Nat), σ' h = some (.inr (13, [.ref na, .ref la, .int (nI nx'), .int (nI br'), .ref (L 0)])) ∧ σ' na = some (eI g 0 (v 0) (fun x9 => nI (num' x9))) ∧ σ' la = some (eI g 0 (v 0) (fun x9 => nI (low' x9))) ∧ Fn σ σ' h na la ∧ nx' + unvN (fun y => decide (0 < num' y)) 8 ≤ 9 ∧ VP v c num low nx br t num' low' nx' br') (nox) := by
  refine Ct.body (by decide) (Nat.le_of_ble_eq_true rfl) ?_
  intro p_ e_ s_ m_ args_ below_ meth_ c_ ls H locs Q F hW hl hQ
  have hl : lv_has ls 4 [(0, .ref h), (1, .int (nI t)), (2, .int c)] := hl
  have hT := hWk.2.2.1
  have hP := hWk.2.2.2.1
  obtain ⟨mcT, nT, fT, eT, bT, -⟩ := id hT
  obtain ⟨mcP, nP, fP, eP, bP, -⟩ := id hP
  have hv0 := hI.1
  have hv1 := hI.2.1
  have hlt9 := unvN_lt (R := fun y => decide (0 < num y)) (R' := fun y => decide (0 < va_up num t nx y)) (fun y hy => by unfold va_up; split; exact decide_eq_true hp.2.2.1; exact hy) (t := t) (decide_eq_false (by rw [hp.1]; decide)) (decide_eq_true (by rw [va_up_self]; exact hp.2.2.1)) 8 (Nat.lt_of_lt_of_le hp.2.1 hI.1)
  have hpv := hp.2.1
  refine lv_aload_n F.x F.cd dX10_visit_0 rfl (lv_at hl 0 rfl) ?_
  refine s_get F hW (ci := 13) (C := RX10) (T := TX10) (N := 5) (v := .ref na) (e0) rfl in_X10 0 (by decide) q716 (fun _ h9 => h9) rfl dX10_visit_1 ?_
  refine lv_iload_n F.x F.cd dX10_visit_4 rfl (lv_at hl 1 rfl) ?_
  refine lv_aload_n F.x F.cd dX10_visit_5 rfl (lv_at hl 0 rfl) ?_
  refine s_get F hW (ci := 13) (C := RX10) (T := TX10) (N := 5) (v := .int (nI nx)) (e0) rfl in_X10 2 (by decide) q719 (fun _ h9 => h9) rfl dX10_visit_6 ?_
  refine n_iastN (i := t) F hW (en) (bn) (hp.2.1) (by omega) dX10_visit_9 (fun H locs hW => ?_)
  obtain ⟨σ1, hσ1⟩ : ∃ z, z = sset σ na (eI g 0 (v 0) (fun x9 => nI ((va_up num t nx) x9))) := ⟨_, rfl⟩
  have hW : Hl g σ1 H locs := by rw [hσ1]; exact hW
  have w1 : σ1 na = some (eI g 0 (v 0) (fun x9 => nI ((va_up num t nx) x9))) := by rw [hσ1]; exact sset_eq
  have f2 : σ1 (L 0) = some (.inr (1, [.ref (L 1), .ref (L 2), .int (nI (v 2)), .int (nI (v 3)), .int (nI (v 4)), .int (nI (v 5))])) := by rw [hσ1, sset_ne (sto_ne en hWk.1 (by simp))]; exact hWk.1
  have f3 : σ1 (L 1) = some (.inr (2, [.int mcT, .ref (L 3), .int (nI (v 0))])) := by rw [hσ1, sset_ne (sto_ne en eT (by simp))]; exact eT
  have j4 := IsList.setI (e := eI g 0 (v 0) (fun x9 => nI ((va_up num t nx) x9))) (hT) (en)
  rw [← hσ1] at j4
  have f5 : σ1 (L 2) = some (.inr (2, [.int mcP, .ref (L 4), .int (nI (v 1))])) := by rw [hσ1, sset_ne (sto_ne en eP (by simp))]; exact eP
  have j6 := IsList.setI (e := eI g 0 (v 0) (fun x9 => nI ((va_up num t nx) x9))) (hP) (en)
  rw [← hσ1] at j6
  have f7 : σ1 h = some (.inr (13, [.ref na, .ref la, .int (nI nx), .int (nI br), .ref (L 0)])) := by rw [hσ1, sset_ne (sto_ne en e0 (by simp))]; exact e0
  have f8 : σ1 la = some (eI g 0 (v 0) (fun x9 => nI (low x9))) := by rw [hσ1, sset_ne (Ne.symm hnl)]; exact el
  refine lv_aload_n F.x F.cd dX10_visit_10 rfl (lv_at hl 0 rfl) ?_
  refine s_get F hW (ci := 13) (C := RX10) (T := TX10) (N := 5) (v := .ref la) (f7) rfl in_X10 1 (by decide) q718 (fun _ h9 => h9) rfl dX10_visit_11 ?_
  refine lv_iload_n F.x F.cd dX10_visit_14 rfl (lv_at hl 1 rfl) ?_
  refine lv_aload_n F.x F.cd dX10_visit_15 rfl (lv_at hl 0 rfl) ?_
  refine s_get F hW (ci := 13) (C := RX10) (T := TX10) (N := 5) (v := .int (nI nx)) (f7) rfl in_X10 2 (by decide) q719 (fun _ h9 => h9) rfl dX10_visit_16 ?_
  refine n_iastN (i := t) F hW (f8) (bl) (hp.2.1) (by omega) dX10_visit_19 (fun H locs hW => ?_)
  obtain ⟨σ9, hσ9⟩ : ∃ z, z = sset σ1 la (eI g 0 (v 0) (fun x9 => nI ((va_up low t nx) x9))) := ⟨_, rfl⟩
  have hW : Hl g σ9 H locs := by rw [hσ9]; exact hW
  have w9 : σ9 la = some (eI g 0 (v 0) (fun x9 => nI ((va_up low t nx) x9))) := by rw [hσ9]; exact sset_eq
  have f10 : σ9 (L 0) = some (.inr (1, [.ref (L 1), .ref (L 2), .int (nI (v 2)), .int (nI (v 3)), .int (nI (v 4)), .int (nI (v 5))])) := by rw [hσ9, sset_ne (sto_ne f8 f2 (by simp))]; exact f2
  have f11 : σ9 (L 1) = some (.inr (2, [.int mcT, .ref (L 3), .int (nI (v 0))])) := by rw [hσ9, sset_ne (sto_ne f8 f3 (by simp))]; exact f3
  have j12 := IsList.setI (e := eI g 0 (v 0) (fun x9 => nI ((va_up low t nx) x9))) (j4) (f8)
  rw [← hσ9] at j12
  have f13 : σ9 (L 2) = some (.inr (2, [.int mcP, .ref (L 4), .int (nI (v 1))])) := by rw [hσ9, sset_ne (sto_ne f8 f5 (by simp))]; exact f5
  have j14 := IsList.setI (e := eI g 0 (v 0) (fun x9 => nI ((va_up low t nx) x9))) (j6) (f8)
  rw [← hσ9] at j14
  have f15 : σ9 h = some (.inr (13, [.ref na, .ref la, .int (nI nx), .int (nI br), .ref (L 0)])) := by rw [hσ9, sset_ne (sto_ne f8 f7 (by simp))]; exact f7
  have f16 : σ9 na = some (eI g 0 (v 0) (fun x9 => nI ((va_up num t nx) x9))) := by rw [hσ9, sset_ne (hnl)]; exact w1
  refine lv_aload_n F.x F.cd dX10_visit_20 rfl (lv_at hl 0 rfl) ?_
  refine lv_dup F.x F.cd dX10_visit_21 rfl ?_
  refine s_get F hW (ci := 13) (C := RX10) (T := TX10) (N := 5) (v := .int (nI nx)) (f15) rfl in_X10 2 (by decide) q719 (fun _ h9 => h9) rfl dX10_visit_22 ?_
  refine lv_iconst (v := (nI 1)) F.x F.cd dX10_visit_25 (by decide) ?_
  refine a_iadd (v := (nI (nx + 1))) F (nI_add _ _) dX10_visit_26 ?_
  refine s_put F hW (ci := 13) (C := RX10) (T := TX10) (N := 5) (v := .int (nI (nx + 1))) (ty := .int) (f15) (bh) rfl in_X10 tyX10_ok nmX10 2 (by decide) q719 (fun _ h9 => h9) rfl (by decide +kernel) rfl rfl (Nat.le_of_ble_eq_true rfl) dX10_visit_27 (fun H locs hW => ?_)
  obtain ⟨σ18, hσ18⟩ : ∃ z, z = sset σ9 h (.inr (13, [.ref na, .ref la, .int (nI (nx + 1)), .int (nI br), .ref (L 0)])) := ⟨_, rfl⟩
  have hW : Hl g σ18 H locs := by rw [hσ18]; exact hW
  have w18 : σ18 h = some (.inr (13, [.ref na, .ref la, .int (nI (nx + 1)), .int (nI br), .ref (L 0)])) := by rw [hσ18]; exact sset_eq
  have f19 : σ18 (L 0) = some (.inr (1, [.ref (L 1), .ref (L 2), .int (nI (v 2)), .int (nI (v 3)), .int (nI (v 4)), .int (nI (v 5))])) := by rw [hσ18, sset_ne (sto_ne f15 f10 (by simp))]; exact f10
  have f20 : σ18 (L 1) = some (.inr (2, [.int mcT, .ref (L 3), .int (nI (v 0))])) := by rw [hσ18, sset_ne (sto_ne f15 f11 (by simp))]; exact f11
  have j21 := IsList.setO (e := .inr (13, [.ref na, .ref la, .int (nI (nx + 1)), .int (nI br), .ref (L 0)])) (j12) (f15) (by decide)
  rw [← hσ18] at j21
  have f22 : σ18 (L 2) = some (.inr (2, [.int mcP, .ref (L 4), .int (nI (v 1))])) := by rw [hσ18, sset_ne (sto_ne f15 f13 (by simp))]; exact f13
  have j23 := IsList.setO (e := .inr (13, [.ref na, .ref la, .int (nI (nx + 1)), .int (nI br), .ref (L 0)])) (j14) (f15) (by decide)
  rw [← hσ18] at j23
  have f24 : σ18 na = some (eI g 0 (v 0) (fun x9 => nI ((va_up num t nx) x9))) := by rw [hσ18, sset_ne (sto_ne f15 f16 (by simp))]; exact f16
  have f25 : σ18 la = some (eI g 0 (v 0) (fun x9 => nI ((va_up low t nx) x9))) := by rw [hσ18, sset_ne (sto_ne f15 w9 (by simp))]; exact w9
  refine lv_iconst (v := (nI 0)) F.x F.cd dX10_visit_30 (by decide) ?_
  refine lv_istore_n (lv' := [(3, .int (nI 0)), (0, .ref h), (1, .int (nI t)), (2, .int c)]) F.x F.cd dX10_visit_31 rfl hl (by decide) rfl (fun ls hl => ?_)
  have loop32 : ∀ (n : Nat) (k : Nat) (σk : Sto) (num1 low1 : Nat → Nat) (nx1 br1 : Nat), k + n = v 1 → σk h = some (.inr (13, [.ref na, .ref la, .int (nI nx1), .int (nI br1), .ref (L 0)])) → σk na = some (eI g 0 (v 0) (fun x9 => nI (num1 x9))) → σk la = some (eI g 0 (v 0) (fun x9 => nI (low1 x9))) → Fn σ σk h na la → nx1 + unvN (fun y => decide (0 < num1 y)) 8 ≤ 9 → unvN (fun y => decide (0 < num1 y)) 8 ≤ 1 → VI v c num low nx br t num1 low1 nx1 br1 k → ∀ (H : Heap) (locs : List Loc) (ls : Array Slot), Hl g σk H locs → lv_has ls 4 [(0, .ref h), (1, .int (nI t)), (2, .int c), (3, .int (nI k))] → W p_ l e_ ({ frames := 6, cells := 0, slots := 0, locals := 133 } : Room) s_ m_ args_ below_ meth_ c_ H locs 0 0 Q (F0 m_ 32 ls ([])) := by
    intro n
    induction n with
    | zero =>
      intro k σk num1 low1 nx1 br1 hkn e1 en1 el1 hFk hb1 hu1 hVI H locs ls hW hl
      have hWn := hWk.fn hFk e0 en el
      have hT_k := hWn.2.2.1
      have hP_k := hWn.2.2.2.1
      obtain ⟨mcT_k, nT_k, fT_k, eT_k, bT_k, -⟩ := id hT_k
      obtain ⟨mcP_k, nP_k, fP_k, eP_k, bP_k, -⟩ := id hP_k
      have hv0_k := hI.1
      have hv1_k := hI.2.1
      refine lv_iload_n F.x F.cd dX10_visit_32 rfl (lv_at hl 3 rfl) ?_
      refine lv_aload_n F.x F.cd dX10_visit_33 rfl (lv_at hl 0 rfl) ?_
      refine s_get F hW (ci := 13) (C := RX10) (T := TX10) (N := 5) (v := .ref (L 0)) (e1) rfl in_X10 4 (by decide) q722 (fun _ h9 => h9) rfl dX10_visit_34 ?_
      refine s_getN F hW (ci := 1) (C := RX2) (T := TX2) (N := 6) (v := .ref (L 2)) (hWn.1) rfl in_X2 1 (by decide) q164 (fun _ h9 => h9) rfl dX10_visit_37 ?_
      refine s_callF (As := []) (rest := [.int (nI k)]) (C := RJ2) (T := TJ2) (N := 3) (n := 0) F hW (k_J2_size g l σk _ _ _ _ hP_k) (eP_k) rfl (List.mem_of_getElem? (i := 0) rfl) q715 q272 q274 q72 q276 (by decide +kernel) rfl ⟨⟨Nat.le_of_ble_eq_true rfl, Nat.le_of_ble_eq_true rfl⟩, ⟨(Nat.le_of_ble_eq_true rfl), (Nat.le_of_ble_eq_true rfl)⟩⟩ (Nat.le_of_ble_eq_true rfl) hl.1 rfl dX10_visit_40 cX_no (fun r26 σ26 H locs hp26 hW => ?_)
      obtain ⟨rfl, hs26⟩ := hp26
      rw [hs26] at hW
      refine W.eq (g2 := F0 m_ 45 ls (.int (nI (v 1)) :: .int (nI k) :: [])) rfl ?_
      refine n_icmp_ge (a := k) (b := v 1) (tgt := 110) F (by omega) (by omega) dX10_visit_45 (by decide) (fun c_45 => ?_) (fun c_45 => ?_)
      · subst hQ
        exact s_retv F hW (⟨rfl, _, _, _, _, e1, en1, el1, hFk, hb1, VI.done hp (by rw [← show k = v 1 by omega]; exact hVI)⟩) ⟨(Nat.le_of_ble_eq_true rfl), (Nat.le_of_ble_eq_true rfl)⟩ dX10_visit_110
      · exact absurd c_45 (by omega)
    | succ n ih32 =>
      intro k σk num1 low1 nx1 br1 hkn e1 en1 el1 hFk hb1 hu1 hVI H locs ls hW hl
      have hWn := hWk.fn hFk e0 en el
      have hT_k := hWn.2.2.1
      have hP_k := hWn.2.2.2.1
      obtain ⟨mcT_k, nT_k, fT_k, eT_k, bT_k, -⟩ := id hT_k
      obtain ⟨mcP_k, nP_k, fP_k, eP_k, bP_k, -⟩ := id hP_k
      have hv0_k := hI.1
      have hv1_k := hI.2.1
      refine lv_iload_n F.x F.cd dX10_visit_32 rfl (lv_at hl 3 rfl) ?_
      refine lv_aload_n F.x F.cd dX10_visit_33 rfl (lv_at hl 0 rfl) ?_
      refine s_get F hW (ci := 13) (C := RX10) (T := TX10) (N := 5) (v := .ref (L 0)) (e1) rfl in_X10 4 (by decide) q722 (fun _ h9 => h9) rfl dX10_visit_34 ?_
      refine s_getN F hW (ci := 1) (C := RX2) (T := TX2) (N := 6) (v := .ref (L 2)) (hWn.1) rfl in_X2 1 (by decide) q164 (fun _ h9 => h9) rfl dX10_visit_37 ?_
      refine s_callF (As := []) (rest := [.int (nI k)]) (C := RJ2) (T := TJ2) (N := 3) (n := 0) F hW (k_J2_size g l σk _ _ _ _ hP_k) (eP_k) rfl (List.mem_of_getElem? (i := 0) rfl) q715 q272 q274 q72 q276 (by decide +kernel) rfl ⟨⟨Nat.le_of_ble_eq_true rfl, Nat.le_of_ble_eq_true rfl⟩, ⟨(Nat.le_of_ble_eq_true rfl), (Nat.le_of_ble_eq_true rfl)⟩⟩ (Nat.le_of_ble_eq_true rfl) hl.1 rfl dX10_visit_40 cX_no (fun r27 σ27 H locs hp27 hW => ?_)
      obtain ⟨rfl, hs27⟩ := hp27
      rw [hs27] at hW
      refine W.eq (g2 := F0 m_ 45 ls (.int (nI (v 1)) :: .int (nI k) :: [])) rfl ?_
      refine n_icmp_ge (a := k) (b := v 1) (tgt := 110) F (by omega) (by omega) dX10_visit_45 (by decide) (fun c_45 => ?_) (fun c_45 => ?_)
      · exact absurd c_45 (by omega)
      · have hpq := hI.pp (q := k) (by omega)
        refine lv_iload_n F.x F.cd dX10_visit_48 rfl (lv_at hl 3 rfl) ?_
        refine lv_iload_n F.x F.cd dX10_visit_49 rfl (lv_at hl 2 rfl) ?_
        refine lv_icmp_eq (x := (nI k)) (y := c) (tgt := 104) F.x F.cd dX10_visit_50 (by decide) (fun c_50 => ?_) (fun c_50 => ?_)
        · refine lv_iinc (k := 3) (v := (nI (k + 1))) (lv' := [(3, .int (nI (k + 1))), (0, .ref h), (1, .int (nI t)), (2, .int c)]) F.x F.cd dX10_visit_104 hl rfl (inc_nI k 1) (by decide) rfl (fun ls hl => ?_)
          refine lv_goto (tgt := 32) F.x F.cd dX10_visit_107 (by decide) ?_
          exact ih32 (k + 1) σk num1 low1 nx1 br1 (by omega) (e1) (en1) (el1) (hFk) (hb1) (hu1) (hVI.skip (Or.inl c_50)) H locs ls hW (lv_sub hl [1, 2, 3, 0] rfl)
        · refine lv_aload_n F.x F.cd dX10_visit_53 rfl (lv_at hl 0 rfl) ?_
          refine s_get F hW (ci := 13) (C := RX10) (T := TX10) (N := 5) (v := .ref (L 0)) (e1) rfl in_X10 4 (by decide) q722 (fun _ h9 => h9) rfl dX10_visit_54 ?_
          refine s_getN F hW (ci := 1) (C := RX2) (T := TX2) (N := 6) (v := .ref (L 2)) (hWn.1) rfl in_X2 1 (by decide) q164 (fun _ h9 => h9) rfl dX10_visit_57 ?_
          refine lv_iload_n F.x F.cd dX10_visit_60 rfl (lv_at hl 3 rfl) ?_
          refine s_callF (As := [.int (nI k)]) (rest := []) (C := RJ2) (T := TJ2) (N := 3) (n := 1) F hW (k_J2_get g l σk _ _ _ _ k hP_k (by omega)) (eP_k) rfl (List.mem_of_getElem? (i := 1) rfl) q739 q328 q330 q72 q332 (by decide +kernel) rfl ⟨⟨Nat.le_of_ble_eq_true rfl, Nat.le_of_ble_eq_true rfl⟩, ⟨(Nat.le_of_ble_eq_true rfl), (Nat.le_of_ble_eq_true rfl)⟩⟩ (Nat.le_of_ble_eq_true rfl) hl.1 rfl dX10_visit_61 cX_no (fun r28 σ28 H locs hp28 hW => ?_)
          obtain ⟨rfl, hs28⟩ := hp28
          rw [hs28] at hW
          refine W.eq (g2 := F0 m_ 66 ls (.ref (L (100 + k)) :: [])) rfl ?_
          refine s_cast_ F hW (C := RX5) (T := TX5) (N := 7) ((hWn.2.2.2.2.2.1 k (by omega)).1) rfl q740 dX10_visit_66 ?_
          refine s_callV (As := []) (rest := []) (C := RX5) (T := TX5) (N := 7) (n := 0) F hW (k_X5_isOpen g l σk (L (100 + k)) (pA v k) (pB v k) (pM v k) (pV v k) (pR v k) (pD v k) (pL v k) ((hWn.2.2.2.2.2.1 k (by omega)).1) (by omega) (by omega)) ((hWn.2.2.2.2.2.1 k (by omega)).1) rfl q741 q672 q673 q96 q674 rfl (by decide +kernel) rfl ⟨⟨Nat.le_of_ble_eq_true rfl, Nat.le_of_ble_eq_true rfl⟩, ⟨(Nat.le_of_ble_eq_true rfl), (Nat.le_of_ble_eq_true rfl)⟩⟩ (Nat.le_of_ble_eq_true rfl) hl.1 rfl dX10_visit_69 cX_no (fun r29 σ29 H locs hp29 hW => ?_)
          obtain ⟨rfl, hs29⟩ := hp29
          rw [hs29] at hW
          refine W.eq (g2 := F0 m_ 72 ls (.int (bI (opn (pV v k) (pD v k))) :: [])) rfl ?_
          refine b_if_eq (b := (opn (pV v k) (pD v k))) (tgt := 104) F dX10_visit_72 (by decide) (fun c_72 => ?_) (fun c_72 => ?_)
          · refine lv_iinc (k := 3) (v := (nI (k + 1))) (lv' := [(3, .int (nI (k + 1))), (0, .ref h), (1, .int (nI t)), (2, .int c)]) F.x F.cd dX10_visit_104 hl rfl (inc_nI k 1) (by decide) rfl (fun ls hl => ?_)
            refine lv_goto (tgt := 32) F.x F.cd dX10_visit_107 (by decide) ?_
            exact ih32 (k + 1) σk num1 low1 nx1 br1 (by omega) (e1) (en1) (el1) (hFk) (hb1) (hu1) (hVI.skip (Or.inr (fun z hz => by rw [hz.1] at c_72; cases c_72))) H locs ls hW (lv_sub hl [1, 2, 3, 0] rfl)
          · refine lv_aload_n F.x F.cd dX10_visit_75 rfl (lv_at hl 0 rfl) ?_
            refine s_get F hW (ci := 13) (C := RX10) (T := TX10) (N := 5) (v := .ref (L 0)) (e1) rfl in_X10 4 (by decide) q722 (fun _ h9 => h9) rfl dX10_visit_76 ?_
            refine s_getN F hW (ci := 1) (C := RX2) (T := TX2) (N := 6) (v := .ref (L 2)) (hWn.1) rfl in_X2 1 (by decide) q164 (fun _ h9 => h9) rfl dX10_visit_79 ?_
            refine lv_iload_n F.x F.cd dX10_visit_82 rfl (lv_at hl 3 rfl) ?_
            refine s_callF (As := [.int (nI k)]) (rest := []) (C := RJ2) (T := TJ2) (N := 3) (n := 1) F hW (k_J2_get g l σk _ _ _ _ k hP_k (by omega)) (eP_k) rfl (List.mem_of_getElem? (i := 1) rfl) q739 q328 q330 q72 q332 (by decide +kernel) rfl ⟨⟨Nat.le_of_ble_eq_true rfl, Nat.le_of_ble_eq_true rfl⟩, ⟨(Nat.le_of_ble_eq_true rfl), (Nat.le_of_ble_eq_true rfl)⟩⟩ (Nat.le_of_ble_eq_true rfl) hl.1 rfl dX10_visit_83 cX_no (fun r30 σ30 H locs hp30 hW => ?_)
            obtain ⟨rfl, hs30⟩ := hp30
            rw [hs30] at hW
            refine W.eq (g2 := F0 m_ 88 ls (.ref (L (100 + k)) :: [])) rfl ?_
            refine s_cast_ F hW (C := RX5) (T := TX5) (N := 7) ((hWn.2.2.2.2.2.1 k (by omega)).1) rfl q740 dX10_visit_88 ?_
            refine lv_iload_n F.x F.cd dX10_visit_91 rfl (lv_at hl 1 rfl) ?_
            refine s_callV (As := [.int (nI t)]) (rest := []) (C := RX5) (T := TX5) (N := 7) (n := 1) F hW (k_X5_touches g l σk (L (100 + k)) (pA v k) (pB v k) (pM v k) (pV v k) (pR v k) (pD v k) (pL v k) t ((hWn.2.2.2.2.2.1 k (by omega)).1) (by omega) (by omega) (by omega)) ((hWn.2.2.2.2.2.1 k (by omega)).1) rfl q742 q676 q677 q96 q678 rfl (by decide +kernel) rfl ⟨⟨Nat.le_of_ble_eq_true rfl, Nat.le_of_ble_eq_true rfl⟩, ⟨(Nat.le_of_ble_eq_true rfl), (Nat.le_of_ble_eq_true rfl)⟩⟩ (Nat.le_of_ble_eq_true rfl) hl.1 rfl dX10_visit_92 cX_no (fun r31 σ31 H locs hp31 hW => ?_)
            obtain ⟨rfl, hs31⟩ := hp31
            rw [hs31] at hW
            refine W.eq (g2 := F0 m_ 95 ls (.int (bI (tch (pA v k) (pB v k) t)) :: [])) rfl ?_
            refine b_if_eq (b := (tch (pA v k) (pB v k) t)) (tgt := 104) F dX10_visit_95 (by decide) (fun c_95 => ?_) (fun c_95 => ?_)
            · refine lv_iinc (k := 3) (v := (nI (k + 1))) (lv' := [(3, .int (nI (k + 1))), (0, .ref h), (1, .int (nI t)), (2, .int c)]) F.x F.cd dX10_visit_104 hl rfl (inc_nI k 1) (by decide) rfl (fun ls hl => ?_)
              refine lv_goto (tgt := 32) F.x F.cd dX10_visit_107 (by decide) ?_
              exact ih32 (k + 1) σk num1 low1 nx1 br1 (by omega) (e1) (en1) (el1) (hFk) (hb1) (hu1) (hVI.skip (Or.inr (fun z hz => by have h9 := hz.2; rw [show tch (pA v k) (pB v k) t = true from decide_eq_true (h9.elim (fun h => Or.inl h.1) (fun h => Or.inr h.1))] at c_95; cases c_95))) H locs ls hW (lv_sub hl [1, 2, 3, 0] rfl)
            · refine lv_aload_n F.x F.cd dX10_visit_98 rfl (lv_at hl 0 rfl) ?_
              refine lv_iload_n F.x F.cd dX10_visit_99 rfl (lv_at hl 1 rfl) ?_
              refine lv_iload_n F.x F.cd dX10_visit_100 rfl (lv_at hl 3 rfl) ?_
              refine s_callV (As := [.int (nI t), .int (nI k)]) (rest := []) (C := RX10) (T := TX10) (N := 5) (n := 2) F hW (k_X10_follow_2 g l σk L v h na la t nx br c num low num1 low1 nx1 br1 k hWn hI e1 en1 el1 bh bn bl hnl hp hVI (by omega) c_50 ⟨c_72, tch_oth c_95 (hI.pp (show k < v 1 by omega)).2.2.1⟩ hu1 hb1) (e1) rfl q743 q745 qs4 q108 q746 rfl (by decide +kernel) rfl ⟨⟨Nat.le_of_ble_eq_true rfl, Nat.le_of_ble_eq_true rfl⟩, ⟨(Nat.le_of_ble_eq_true rfl), (Nat.le_of_ble_eq_true rfl)⟩⟩ (Nat.le_of_ble_eq_true rfl) hl.1 rfl dX10_visit_101 cX_no (fun r32 σ32 H locs hp32 hW => ?_)
              obtain ⟨rfl, num2, low2, nx2, br2, e2, en2, el2, hF2, hb2, hm2, hVI2⟩ := hp32
              refine W.eq (g2 := F0 m_ 104 ls ([])) rfl ?_
              refine lv_iinc (k := 3) (v := (nI (k + 1))) (lv' := [(3, .int (nI (k + 1))), (0, .ref h), (1, .int (nI t)), (2, .int c)]) F.x F.cd dX10_visit_104 hl rfl (inc_nI k 1) (by decide) rfl (fun ls hl => ?_)
              refine lv_goto (tgt := 32) F.x F.cd dX10_visit_107 (by decide) ?_
              exact ih32 (k + 1) σ32 num2 low2 nx2 br2 (by omega) (e2) (en2) (el2) (hFk.trans hF2) (hb2) (Nat.le_trans (unvN_le (fun y hy => decide_eq_true (hm2 y (of_decide_eq_true hy))) 8) hu1) (hVI2) H locs ls hW (lv_sub hl [1, 2, 3, 0] rfl)
  exact loop32 (v 1) 0 _ _ _ _ _ (by omega) (w18) (f24) (f25) (by rw [hσ18, hσ9, hσ1]; exact ((Fn.refl.set (Or.inr (Or.inl rfl))).set (Or.inr (Or.inr rfl))).set (Or.inl rfl)) (by have h9 := hlt9; omega) (by have h9 := hlt9; omega) (VI.start hI hp) H locs ls hW (lv_sub hl [1, 2, 3, 0] rfl)
set_option maxHeartbeats 4000000 in
theorem k_X10_follow_3 (g : Gh) (l : Launch) (σ : Sto) (L v : Nat → Nat) (h na la t nx br : Nat) (c : Int32) (num low : Nat → Nat) (num1 low1 : Nat → Nat) (nx1 br1 k : Nat) (hWk : IsWorks g σ L v) (hI : Inv v) (e0 : σ h = some (.inr (13, [.ref na, .ref la, .int (nI nx1), .int (nI br1), .ref (L 0)]))) (en : σ na = some (eI g 0 (v 0) (fun x9 => nI (num1 x9)))) (el : σ la = some (eI g 0 (v 0) (fun x9 => nI (low1 x9)))) (bh : gB g ≤ h) (bn : gB g ≤ na) (bl : gB g ≤ la) (hnl : na ≠ la) (hp : VPre v num nx t c) (hVI : VI v c num low nx br t num1 low1 nx1 br1 k) (hk : k < v 1) (hc0 : nI k ≠ c) (he0 : edg v k t (oth (pA v k) (pB v k) t)) (hun : unvN (fun y => decide (0 < num1 y)) 8 ≤ 2) (hnx : nx1 + unvN (fun y => decide (0 < num1 y)) 8 ≤ 9) : Ct g l yX10_follow cX10_follow 4 none ({ frames := 7, cells := 0, slots := 0, locals := 156 } : Room) [.ref h, .int (nI t), .int (nI k)] σ (fun r σ' => r = none ∧ ∃ (num' low' : Nat → Nat) (nx' br' : Nat), σ' h = some (.inr (13, [.ref na, .ref la, .int (nI nx'), .int (nI br'), .ref (L 0)])) ∧ σ' na = some (eI g 0 (v 0) (fun x9 => nI (num' x9))) ∧ σ' la = some (eI g 0 (v 0) (fun x9 => nI (low' x9))) ∧ Fn σ σ' h na la ∧ nx' + unvN (fun y => decide (0 < num' y)) 8 ≤ 9 ∧ (∀ y, 0 < num1 y → 0 < num' y) ∧ VI v c num low nx br t num' low' nx' br' (k + 1)) (nox) := by
  refine Ct.body (by decide) (Nat.le_of_ble_eq_true rfl) ?_
  intro p_ e_ s_ m_ args_ below_ meth_ c_ ls H locs Q F hW hl hQ
  have hl : lv_has ls 4 [(0, .ref h), (1, .int (nI t)), (2, .int (nI k))] := hl
  have hT := hWk.2.2.1
  have hP := hWk.2.2.2.1
  obtain ⟨mcT, nT, fT, eT, bT, -⟩ := id hT
  obtain ⟨mcP, nP, fP, eP, bP, -⟩ := id hP
  have hv0 := hI.1
  have hv1 := hI.2.1
  have hpq := hI.pp hk
  have htv := hp.2.1
  have hov := oth_lt (t := t) hpq.1 hpq.2.1
  have hnb := fun y => hVI.2.2.2.1.2 y
  have hno := hnb (oth (pA v k) (pB v k) t)
  have hlt := hVI.2.2.2.2.2.2.2.1.1
  have hnn := hVI.2.2.2.1.1
  refine lv_aload_n F.x F.cd dX10_follow_0 rfl (lv_at hl 0 rfl) ?_
  refine s_get F hW (ci := 13) (C := RX10) (T := TX10) (N := 5) (v := .ref (L 0)) (e0) rfl in_X10 4 (by decide) q722 (fun _ h9 => h9) rfl dX10_follow_1 ?_
  refine s_getN F hW (ci := 1) (C := RX2) (T := TX2) (N := 6) (v := .ref (L 2)) (hWk.1) rfl in_X2 1 (by decide) q164 (fun _ h9 => h9) rfl dX10_follow_4 ?_
  refine lv_iload_n F.x F.cd dX10_follow_7 rfl (lv_at hl 2 rfl) ?_
  refine s_callF (As := [.int (nI k)]) (rest := []) (C := RJ2) (T := TJ2) (N := 3) (n := 1) F hW (k_J2_get g l σ _ _ _ _ k hP (by omega)) (eP) rfl (List.mem_of_getElem? (i := 1) rfl) q739 q328 q330 q72 q332 (by decide +kernel) rfl ⟨⟨Nat.le_of_ble_eq_true rfl, Nat.le_of_ble_eq_true rfl⟩, ⟨(Nat.le_of_ble_eq_true rfl), (Nat.le_of_ble_eq_true rfl)⟩⟩ (Nat.le_of_ble_eq_true rfl) hl.1 rfl dX10_follow_8 cX_no (fun r1 σ1 H locs hp1 hW => ?_)
  obtain ⟨rfl, hs1⟩ := hp1
  rw [hs1] at hW
  refine W.eq (g2 := F0 m_ 13 ls (.ref (L (100 + k)) :: [])) rfl ?_
  refine s_cast_ F hW (C := RX5) (T := TX5) (N := 7) ((hWk.2.2.2.2.2.1 k (by omega)).1) rfl q740 dX10_follow_13 ?_
  refine lv_iload_n F.x F.cd dX10_follow_16 rfl (lv_at hl 1 rfl) ?_
  refine s_callV (As := [.int (nI t)]) (rest := []) (C := RX5) (T := TX5) (N := 7) (n := 1) F hW (k_X5_otherEnd g l σ (L (100 + k)) (pA v k) (pB v k) (pM v k) (pV v k) (pR v k) (pD v k) (pL v k) t ((hWk.2.2.2.2.2.1 k (by omega)).1) (by omega) (by omega)) ((hWk.2.2.2.2.2.1 k (by omega)).1) rfl q747 q680 q681 q96 q682 rfl (by decide +kernel) rfl ⟨⟨Nat.le_of_ble_eq_true rfl, Nat.le_of_ble_eq_true rfl⟩, ⟨(Nat.le_of_ble_eq_true rfl), (Nat.le_of_ble_eq_true rfl)⟩⟩ (Nat.le_of_ble_eq_true rfl) hl.1 rfl dX10_follow_17 cX_no (fun r2 σ2 H locs hp2 hW => ?_)
  obtain ⟨rfl, hs2⟩ := hp2
  rw [hs2] at hW
  refine W.eq (g2 := F0 m_ 20 ls (.int (nI (oth (pA v k) (pB v k) t)) :: [])) rfl ?_
  refine lv_istore_n (lv' := [(3, .int (nI (oth (pA v k) (pB v k) t))), (0, .ref h), (1, .int (nI t)), (2, .int (nI k))]) F.x F.cd dX10_follow_20 rfl hl (by decide) rfl (fun ls hl => ?_)
  refine lv_aload_n F.x F.cd dX10_follow_21 rfl (lv_at hl 1 rfl) ?_
  refine s_get F hW (ci := 13) (C := RX10) (T := TX10) (N := 5) (v := .ref na) (e0) rfl in_X10 0 (by decide) q716 (fun _ h9 => h9) rfl dX10_follow_22 ?_
  refine lv_iload_n F.x F.cd dX10_follow_25 rfl (lv_at hl 0 rfl) ?_
  refine n_iald (i := oth (pA v k) (pB v k) t) (n := v 0) (f := (fun x9 => nI (num1 x9))) (x := (nI (num1 (oth (pA v k) (pB v k) t)))) F hW (en) (hov) (by omega) (rfl) dX10_follow_26 ?_
  refine n_if_le (a := num1 (oth (pA v k) (pB v k) t)) (tgt := 54) F (by omega) dX10_follow_27 (by decide) (fun c_27 => ?_) (fun c_27 => ?_)
  · refine lv_aload_n F.x F.cd dX10_follow_54 rfl (lv_at hl 1 rfl) ?_
    refine lv_iload_n F.x F.cd dX10_follow_55 rfl (lv_at hl 0 rfl) ?_
    refine lv_iload_n F.x F.cd dX10_follow_56 rfl (lv_at hl 3 rfl) ?_
    refine s_callV (As := [.int (nI (oth (pA v k) (pB v k) t)), .int (nI k)]) (rest := []) (C := RX10) (T := TX10) (N := 5) (n := 2) F hW (k_X10_visit_2 g l σ L v h na la (oth (pA v k) (pB v k) t) nx1 br1 (nI k) num1 low1 hWk hI e0 en el bh bn bl hnl (hVI.pre hI hp hk he0 c_27) (by omega) (by omega)) (e0) rfl q749 q735 q736 q108 q737 rfl (by decide +kernel) rfl ⟨⟨Nat.le_of_ble_eq_true rfl, Nat.le_of_ble_eq_true rfl⟩, ⟨(Nat.le_of_ble_eq_true rfl), (Nat.le_of_ble_eq_true rfl)⟩⟩ (Nat.le_of_ble_eq_true rfl) hl.1 rfl dX10_follow_57 cX_no (fun r3 σ3 H locs hp3 hW => ?_)
    obtain ⟨rfl, num2, low2, nx2, br2, e2, en2, el2, hF2, hb2, hP2⟩ := hp3
    refine W.eq (g2 := F0 m_ 60 ls ([])) rfl ?_
    have hlo2 := hP2.2.2.2.2.2.2.1.1
    have hlt2 := (hP2.2.1 t (by rw [hVI.1]; exact hp.2.2.1))
    have hnt2 := hP2.2.2.2.1.2 t
    have hl22 := hlt2.2
    rw [← hl22] at hlt
    refine lv_aload_n F.x F.cd dX10_follow_60 rfl (lv_at hl 1 rfl) ?_
    refine s_get F hW (ci := 13) (C := RX10) (T := TX10) (N := 5) (v := .ref la) (e2) rfl in_X10 1 (by decide) q718 (fun _ h9 => h9) rfl dX10_follow_61 ?_
    refine lv_iload_n F.x F.cd dX10_follow_64 rfl (lv_at hl 2 rfl) ?_
    refine lv_aload_n F.x F.cd dX10_follow_65 rfl (lv_at hl 1 rfl) ?_
    refine s_get F hW (ci := 13) (C := RX10) (T := TX10) (N := 5) (v := .ref la) (e2) rfl in_X10 1 (by decide) q718 (fun _ h9 => h9) rfl dX10_follow_66 ?_
    refine lv_iload_n F.x F.cd dX10_follow_69 rfl (lv_at hl 2 rfl) ?_
    refine n_iald (i := t) (n := v 0) (f := (fun x9 => nI (low2 x9))) (x := (nI (low2 t))) F hW (el2) (by omega) (by omega) (rfl) dX10_follow_70 ?_
    refine lv_aload_n F.x F.cd dX10_follow_71 rfl (lv_at hl 1 rfl) ?_
    refine s_get F hW (ci := 13) (C := RX10) (T := TX10) (N := 5) (v := .ref la) (e2) rfl in_X10 1 (by decide) q718 (fun _ h9 => h9) rfl dX10_follow_72 ?_
    refine lv_iload_n F.x F.cd dX10_follow_75 rfl (lv_at hl 0 rfl) ?_
    refine n_iald (i := oth (pA v k) (pB v k) t) (n := v 0) (f := (fun x9 => nI (low2 x9))) (x := (nI (low2 (oth (pA v k) (pB v k) t)))) F hW (el2) (by omega) (by omega) (rfl) dX10_follow_76 ?_
    refine s_mmin (v := (nI (min (low2 t) (low2 (oth (pA v k) (pB v k) t))))) F q748 q453 q87 q454 hl.1 (Nat.le_of_ble_eq_true rfl) (Nat.le_of_ble_eq_true rfl) (Nat.le_of_ble_eq_true rfl) (Nat.le_of_ble_eq_true rfl) (nI_min (by omega) (by omega)) dX10_follow_77 ?_
    refine n_iastN (i := t) F hW (el2) (bl) (by omega) (by omega) dX10_follow_80 (fun H locs hW => ?_)
    obtain ⟨σ4, hσ4⟩ : ∃ z, z = sset σ3 la (eI g 0 (v 0) (fun x9 => nI ((va_up low2 t (min (low2 t) (low2 (oth (pA v k) (pB v k) t)))) x9))) := ⟨_, rfl⟩
    have hW : Hl g σ4 H locs := by rw [hσ4]; exact hW
    have w4 : σ4 la = some (eI g 0 (v 0) (fun x9 => nI ((va_up low2 t (min (low2 t) (low2 (oth (pA v k) (pB v k) t)))) x9))) := by rw [hσ4]; exact sset_eq
    have f5 : σ4 h = some (.inr (13, [.ref na, .ref la, .int (nI nx2), .int (nI br2), .ref (L 0)])) := by rw [hσ4, sset_ne (sto_ne el2 e2 (by simp))]; exact e2
    have f6 : σ4 na = some (eI g 0 (v 0) (fun x9 => nI (num2 x9))) := by rw [hσ4, sset_ne (hnl)]; exact en2
    have hvo : (va_up low2 t (min (low2 t) (low2 (oth (pA v k) (pB v k) t)))) (oth (pA v k) (pB v k) t) = low2 (oth (pA v k) (pB v k) t) := va_up_ne _ _ (edg.ne hI hk he0).symm
    refine lv_aload_n F.x F.cd dX10_follow_81 rfl (lv_at hl 1 rfl) ?_
    refine lv_dup F.x F.cd dX10_follow_82 rfl ?_
    refine s_get F hW (ci := 13) (C := RX10) (T := TX10) (N := 5) (v := .int (nI br2)) (f5) rfl in_X10 3 (by decide) q720 (fun _ h9 => h9) rfl dX10_follow_83 ?_
    refine lv_aload_n F.x F.cd dX10_follow_86 rfl (lv_at hl 1 rfl) ?_
    refine s_get F hW (ci := 13) (C := RX10) (T := TX10) (N := 5) (v := .ref la) (f5) rfl in_X10 1 (by decide) q718 (fun _ h9 => h9) rfl dX10_follow_87 ?_
    refine lv_iload_n F.x F.cd dX10_follow_90 rfl (lv_at hl 0 rfl) ?_
    refine n_iald (i := oth (pA v k) (pB v k) t) (n := v 0) (f := (fun x9 => nI ((va_up low2 t (min (low2 t) (low2 (oth (pA v k) (pB v k) t)))) x9))) (x := (nI ((va_up low2 t (min (low2 t) (low2 (oth (pA v k) (pB v k) t)))) (oth (pA v k) (pB v k) t)))) F hW (w4) (by omega) (by omega) (rfl) dX10_follow_91 ?_
    refine lv_aload_n F.x F.cd dX10_follow_92 rfl (lv_at hl 1 rfl) ?_
    refine s_get F hW (ci := 13) (C := RX10) (T := TX10) (N := 5) (v := .ref na) (f5) rfl in_X10 0 (by decide) q716 (fun _ h9 => h9) rfl dX10_follow_93 ?_
    refine lv_iload_n F.x F.cd dX10_follow_96 rfl (lv_at hl 2 rfl) ?_
    refine n_iald (i := t) (n := v 0) (f := (fun x9 => nI (num2 x9))) (x := (nI (num2 t))) F hW (f6) (by omega) (by omega) (rfl) dX10_follow_97 ?_
    refine n_icmp_le (a := (va_up low2 t (min (low2 t) (low2 (oth (pA v k) (pB v k) t)))) (oth (pA v k) (pB v k) t)) (b := num2 t) (tgt := 105) F (by omega) (by omega) dX10_follow_98 (by decide) (fun c_98 => ?_) (fun c_98 => ?_)
    · refine lv_iconst (v := (nI 0)) F.x F.cd dX10_follow_105 (by decide) ?_
      refine W.eq (g2 := F0 m_ 106 ls (.int (nI (if num2 t < low2 (oth (pA v k) (pB v k) t) then 1 else 0)) :: .int (nI br2) :: .ref h :: [])) (by rw [if_neg (by omega)]) ?_
      refine a_iadd (v := (nI (br2 + (if num2 t < low2 (oth (pA v k) (pB v k) t) then 1 else 0)))) F (nI_add _ _) dX10_follow_106 ?_
      refine s_put F hW (ci := 13) (C := RX10) (T := TX10) (N := 5) (v := .int (nI (br2 + (if num2 t < low2 (oth (pA v k) (pB v k) t) then 1 else 0)))) (ty := .int) (f5) (bh) rfl in_X10 tyX10_ok nmX10 3 (by decide) q720 (fun _ h9 => h9) rfl (by decide +kernel) rfl rfl (Nat.le_of_ble_eq_true rfl) dX10_follow_107 (fun H locs hW => ?_)
      obtain ⟨σ8, hσ8⟩ : ∃ z, z = sset σ4 h (.inr (13, [.ref na, .ref la, .int (nI nx2), .int (nI (br2 + (if num2 t < low2 (oth (pA v k) (pB v k) t) then 1 else 0))), .ref (L 0)])) := ⟨_, rfl⟩
      have hW : Hl g σ8 H locs := by rw [hσ8]; exact hW
      have w8 : σ8 h = some (.inr (13, [.ref na, .ref la, .int (nI nx2), .int (nI (br2 + (if num2 t < low2 (oth (pA v k) (pB v k) t) then 1 else 0))), .ref (L 0)])) := by rw [hσ8]; exact sset_eq
      have f9 : σ8 na = some (eI g 0 (v 0) (fun x9 => nI (num2 x9))) := by rw [hσ8, sset_ne (sto_ne f5 f6 (by simp))]; exact f6
      have f10 : σ8 la = some (eI g 0 (v 0) (fun x9 => nI ((va_up low2 t (min (low2 t) (low2 (oth (pA v k) (pB v k) t)))) x9))) := by rw [hσ8, sset_ne (sto_ne f5 w4 (by simp))]; exact w4
      subst hQ
      exact s_retv F hW (⟨rfl, _, _, _, _, w8, f9, f10, by rw [hσ8, hσ4]; exact (hF2.set (Or.inr (Or.inr rfl))).set (Or.inl rfl), hb2, fun y hy => by rw [(hP2.2.1 y hy).1]; exact hy, hVI.tree hI hp hk hc0 he0 c_27 hP2⟩) ⟨(Nat.le_of_ble_eq_true rfl), (Nat.le_of_ble_eq_true rfl)⟩ dX10_follow_110
    · refine lv_iconst (v := (nI 1)) F.x F.cd dX10_follow_101 (by decide) ?_
      refine lv_goto (tgt := 106) F.x F.cd dX10_follow_102 (by decide) ?_
      refine W.eq (g2 := F0 m_ 106 ls (.int (nI (if num2 t < low2 (oth (pA v k) (pB v k) t) then 1 else 0)) :: .int (nI br2) :: .ref h :: [])) (by rw [if_pos (by omega)]) ?_
      refine a_iadd (v := (nI (br2 + (if num2 t < low2 (oth (pA v k) (pB v k) t) then 1 else 0)))) F (nI_add _ _) dX10_follow_106 ?_
      refine s_put F hW (ci := 13) (C := RX10) (T := TX10) (N := 5) (v := .int (nI (br2 + (if num2 t < low2 (oth (pA v k) (pB v k) t) then 1 else 0)))) (ty := .int) (f5) (bh) rfl in_X10 tyX10_ok nmX10 3 (by decide) q720 (fun _ h9 => h9) rfl (by decide +kernel) rfl rfl (Nat.le_of_ble_eq_true rfl) dX10_follow_107 (fun H locs hW => ?_)
      obtain ⟨σ12, hσ12⟩ : ∃ z, z = sset σ4 h (.inr (13, [.ref na, .ref la, .int (nI nx2), .int (nI (br2 + (if num2 t < low2 (oth (pA v k) (pB v k) t) then 1 else 0))), .ref (L 0)])) := ⟨_, rfl⟩
      have hW : Hl g σ12 H locs := by rw [hσ12]; exact hW
      have w12 : σ12 h = some (.inr (13, [.ref na, .ref la, .int (nI nx2), .int (nI (br2 + (if num2 t < low2 (oth (pA v k) (pB v k) t) then 1 else 0))), .ref (L 0)])) := by rw [hσ12]; exact sset_eq
      have f13 : σ12 na = some (eI g 0 (v 0) (fun x9 => nI (num2 x9))) := by rw [hσ12, sset_ne (sto_ne f5 f6 (by simp))]; exact f6
      have f14 : σ12 la = some (eI g 0 (v 0) (fun x9 => nI ((va_up low2 t (min (low2 t) (low2 (oth (pA v k) (pB v k) t)))) x9))) := by rw [hσ12, sset_ne (sto_ne f5 w4 (by simp))]; exact w4
      subst hQ
      exact s_retv F hW (⟨rfl, _, _, _, _, w12, f13, f14, by rw [hσ12, hσ4]; exact (hF2.set (Or.inr (Or.inr rfl))).set (Or.inl rfl), hb2, fun y hy => by rw [(hP2.2.1 y hy).1]; exact hy, hVI.tree hI hp hk hc0 he0 c_27 hP2⟩) ⟨(Nat.le_of_ble_eq_true rfl), (Nat.le_of_ble_eq_true rfl)⟩ dX10_follow_110
  · refine lv_aload_n F.x F.cd dX10_follow_30 rfl (lv_at hl 1 rfl) ?_
    refine s_get F hW (ci := 13) (C := RX10) (T := TX10) (N := 5) (v := .ref la) (e0) rfl in_X10 1 (by decide) q718 (fun _ h9 => h9) rfl dX10_follow_31 ?_
    refine lv_iload_n F.x F.cd dX10_follow_34 rfl (lv_at hl 2 rfl) ?_
    refine lv_aload_n F.x F.cd dX10_follow_35 rfl (lv_at hl 1 rfl) ?_
    refine s_get F hW (ci := 13) (C := RX10) (T := TX10) (N := 5) (v := .ref la) (e0) rfl in_X10 1 (by decide) q718 (fun _ h9 => h9) rfl dX10_follow_36 ?_
    refine lv_iload_n F.x F.cd dX10_follow_39 rfl (lv_at hl 2 rfl) ?_
    refine n_iald (i := t) (n := v 0) (f := (fun x9 => nI (low1 x9))) (x := (nI (low1 t))) F hW (el) (by omega) (by omega) (rfl) dX10_follow_40 ?_
    refine lv_aload_n F.x F.cd dX10_follow_41 rfl (lv_at hl 1 rfl) ?_
    refine s_get F hW (ci := 13) (C := RX10) (T := TX10) (N := 5) (v := .ref na) (e0) rfl in_X10 0 (by decide) q716 (fun _ h9 => h9) rfl dX10_follow_42 ?_
    refine lv_iload_n F.x F.cd dX10_follow_45 rfl (lv_at hl 0 rfl) ?_
    refine n_iald (i := oth (pA v k) (pB v k) t) (n := v 0) (f := (fun x9 => nI (num1 x9))) (x := (nI (num1 (oth (pA v k) (pB v k) t)))) F hW (en) (hov) (by omega) (rfl) dX10_follow_46 ?_
    refine s_mmin (v := (nI (min (low1 t) (num1 (oth (pA v k) (pB v k) t))))) F q748 q453 q87 q454 hl.1 (Nat.le_of_ble_eq_true rfl) (Nat.le_of_ble_eq_true rfl) (Nat.le_of_ble_eq_true rfl) (Nat.le_of_ble_eq_true rfl) (nI_min (by omega) (by omega)) dX10_follow_47 ?_
    refine n_iastN (i := t) F hW (el) (bl) (by omega) (by omega) dX10_follow_50 (fun H locs hW => ?_)
    obtain ⟨σ15, hσ15⟩ : ∃ z, z = sset σ la (eI g 0 (v 0) (fun x9 => nI ((va_up low1 t (min (low1 t) (num1 (oth (pA v k) (pB v k) t)))) x9))) := ⟨_, rfl⟩
    have hW : Hl g σ15 H locs := by rw [hσ15]; exact hW
    have w15 : σ15 la = some (eI g 0 (v 0) (fun x9 => nI ((va_up low1 t (min (low1 t) (num1 (oth (pA v k) (pB v k) t)))) x9))) := by rw [hσ15]; exact sset_eq
    have f16 : σ15 (L 0) = some (.inr (1, [.ref (L 1), .ref (L 2), .int (nI (v 2)), .int (nI (v 3)), .int (nI (v 4)), .int (nI (v 5))])) := by rw [hσ15, sset_ne (sto_ne el hWk.1 (by simp))]; exact hWk.1
    have f17 : σ15 (L 1) = some (.inr (2, [.int mcT, .ref (L 3), .int (nI (v 0))])) := by rw [hσ15, sset_ne (sto_ne el eT (by simp))]; exact eT
    have j18 := IsList.setI (e := eI g 0 (v 0) (fun x9 => nI ((va_up low1 t (min (low1 t) (num1 (oth (pA v k) (pB v k) t)))) x9))) (hT) (el)
    rw [← hσ15] at j18
    have f19 : σ15 (L 2) = some (.inr (2, [.int mcP, .ref (L 4), .int (nI (v 1))])) := by rw [hσ15, sset_ne (sto_ne el eP (by simp))]; exact eP
    have j20 := IsList.setI (e := eI g 0 (v 0) (fun x9 => nI ((va_up low1 t (min (low1 t) (num1 (oth (pA v k) (pB v k) t)))) x9))) (hP) (el)
    rw [← hσ15] at j20
    have f21 : σ15 h = some (.inr (13, [.ref na, .ref la, .int (nI nx1), .int (nI br1), .ref (L 0)])) := by rw [hσ15, sset_ne (sto_ne el e0 (by simp))]; exact e0
    have f22 : σ15 (L (100 + k)) = some (.inr (9, [.int (nI (pA v k)), .int (nI (pB v k)), .int (nI (pM v k)), .int (nI (pV v k)), .int (nI (pR v k)), .int (nI (pD v k)), .int (nI (pL v k))])) := by rw [hσ15, sset_ne (sto_ne el ((hWk.2.2.2.2.2.1 k (by omega)).1) (by simp))]; exact (hWk.2.2.2.2.2.1 k (by omega)).1
    have f23 : σ15 na = some (eI g 0 (v 0) (fun x9 => nI (num1 x9))) := by rw [hσ15, sset_ne (hnl)]; exact en
    refine lv_goto (tgt := 110) F.x F.cd dX10_follow_51 (by decide) ?_
    subst hQ
    exact s_retv F hW (⟨rfl, _, _, _, _, f21, f23, w15, by rw [hσ15]; exact Fn.refl.set (Or.inr (Or.inr rfl)), hnx, fun y hy => hy, hVI.back hI hp hk hc0 he0 (by omega)⟩) ⟨(Nat.le_of_ble_eq_true rfl), (Nat.le_of_ble_eq_true rfl)⟩ dX10_follow_110
set_option maxHeartbeats 4000000 in
theorem k_X10_visit_3 (g : Gh) (l : Launch) (σ : Sto) (L v : Nat → Nat) (h na la t nx br : Nat) (c : Int32) (num low : Nat → Nat) (hWk : IsWorks g σ L v) (hI : Inv v) (e0 : σ h = some (.inr (13, [.ref na, .ref la, .int (nI nx), .int (nI br), .ref (L 0)]))) (en : σ na = some (eI g 0 (v 0) (fun x9 => nI (num x9)))) (el : σ la = some (eI g 0 (v 0) (fun x9 => nI (low x9)))) (bh : gB g ≤ h) (bn : gB g ≤ na) (bl : gB g ≤ la) (hnl : na ≠ la) (hp : VPre v num nx t c) (hun : unvN (fun y => decide (0 < num y)) 8 ≤ 3) (hnx : nx + unvN (fun y => decide (0 < num y)) 8 ≤ 9) : Ct g l yX10_visit cX10_visit 4 none ({ frames := 8, cells := 0, slots := 0, locals := 179 } : Room) [.ref h, .int (nI t), .int c] σ (fun r σ' => r = none ∧ ∃ (num' low' : Nat → Nat) (nx' br' : Nat), σ' h = some (.inr (13, [.ref na, .ref la, .int (nI nx'), .int (nI br'), .ref (L 0)])) ∧ σ' na = some (eI g 0 (v 0) (fun x9 => nI (num' x9))) ∧ σ' la = some (eI g 0 (v 0) (fun x9 => nI (low' x9))) ∧ Fn σ σ' h na la ∧ nx' + unvN (fun y => decide (0 < num' y)) 8 ≤ 9 ∧ VP v c num low nx br t num' low' nx' br') (nox) := by
  refine Ct.body (by decide) (Nat.le_of_ble_eq_true rfl) ?_
  intro p_ e_ s_ m_ args_ below_ meth_ c_ ls H locs Q F hW hl hQ
  have hl : lv_has ls 4 [(0, .ref h), (1, .int (nI t)), (2, .int c)] := hl
  have hT := hWk.2.2.1
  have hP := hWk.2.2.2.1
  obtain ⟨mcT, nT, fT, eT, bT, -⟩ := id hT
  obtain ⟨mcP, nP, fP, eP, bP, -⟩ := id hP
  have hv0 := hI.1
  have hv1 := hI.2.1
  have hlt9 := unvN_lt (R := fun y => decide (0 < num y)) (R' := fun y => decide (0 < va_up num t nx y)) (fun y hy => by unfold va_up; split; exact decide_eq_true hp.2.2.1; exact hy) (t := t) (decide_eq_false (by rw [hp.1]; decide)) (decide_eq_true (by rw [va_up_self]; exact hp.2.2.1)) 8 (Nat.lt_of_lt_of_le hp.2.1 hI.1)
  have hpv := hp.2.1
  refine lv_aload_n F.x F.cd dX10_visit_0 rfl (lv_at hl 0 rfl) ?_
  refine s_get F hW (ci := 13) (C := RX10) (T := TX10) (N := 5) (v := .ref na) (e0) rfl in_X10 0 (by decide) q716 (fun _ h9 => h9) rfl dX10_visit_1 ?_
  refine lv_iload_n F.x F.cd dX10_visit_4 rfl (lv_at hl 1 rfl) ?_
  refine lv_aload_n F.x F.cd dX10_visit_5 rfl (lv_at hl 0 rfl) ?_
  refine s_get F hW (ci := 13) (C := RX10) (T := TX10) (N := 5) (v := .int (nI nx)) (e0) rfl in_X10 2 (by decide) q719 (fun _ h9 => h9) rfl dX10_visit_6 ?_
  refine n_iastN (i := t) F hW (en) (bn) (hp.2.1) (by omega) dX10_visit_9 (fun H locs hW => ?_)
  obtain ⟨σ1, hσ1⟩ : ∃ z, z = sset σ na (eI g 0 (v 0) (fun x9 => nI ((va_up num t nx) x9))) := ⟨_, rfl⟩
  have hW : Hl g σ1 H locs := by rw [hσ1]; exact hW
  have w1 : σ1 na = some (eI g 0 (v 0) (fun x9 => nI ((va_up num t nx) x9))) := by rw [hσ1]; exact sset_eq
  have f2 : σ1 (L 0) = some (.inr (1, [.ref (L 1), .ref (L 2), .int (nI (v 2)), .int (nI (v 3)), .int (nI (v 4)), .int (nI (v 5))])) := by rw [hσ1, sset_ne (sto_ne en hWk.1 (by simp))]; exact hWk.1
  have f3 : σ1 (L 1) = some (.inr (2, [.int mcT, .ref (L 3), .int (nI (v 0))])) := by rw [hσ1, sset_ne (sto_ne en eT (by simp))]; exact eT
  have j4 := IsList.setI (e := eI g 0 (v 0) (fun x9 => nI ((va_up num t nx) x9))) (hT) (en)
  rw [← hσ1] at j4
  have f5 : σ1 (L 2) = some (.inr (2, [.int mcP, .ref (L 4), .int (nI (v 1))])) := by rw [hσ1, sset_ne (sto_ne en eP (by simp))]; exact eP
  have j6 := IsList.setI (e := eI g 0 (v 0) (fun x9 => nI ((va_up num t nx) x9))) (hP) (en)
  rw [← hσ1] at j6
  have f7 : σ1 h = some (.inr (13, [.ref na, .ref la, .int (nI nx), .int (nI br), .ref (L 0)])) := by rw [hσ1, sset_ne (sto_ne en e0 (by simp))]; exact e0
  have f8 : σ1 la = some (eI g 0 (v 0) (fun x9 => nI (low x9))) := by rw [hσ1, sset_ne (Ne.symm hnl)]; exact el
  refine lv_aload_n F.x F.cd dX10_visit_10 rfl (lv_at hl 0 rfl) ?_
  refine s_get F hW (ci := 13) (C := RX10) (T := TX10) (N := 5) (v := .ref la) (f7) rfl in_X10 1 (by decide) q718 (fun _ h9 => h9) rfl dX10_visit_11 ?_
  refine lv_iload_n F.x F.cd dX10_visit_14 rfl (lv_at hl 1 rfl) ?_
  refine lv_aload_n F.x F.cd dX10_visit_15 rfl (lv_at hl 0 rfl) ?_
  refine s_get F hW (ci := 13) (C := RX10) (T := TX10) (N := 5) (v := .int (nI nx)) (f7) rfl in_X10 2 (by decide) q719 (fun _ h9 => h9) rfl dX10_visit_16 ?_
  refine n_iastN (i := t) F hW (f8) (bl) (hp.2.1) (by omega) dX10_visit_19 (fun H locs hW => ?_)
  obtain ⟨σ9, hσ9⟩ : ∃ z, z = sset σ1 la (eI g 0 (v 0) (fun x9 => nI ((va_up low t nx) x9))) := ⟨_, rfl⟩
  have hW : Hl g σ9 H locs := by rw [hσ9]; exact hW
  have w9 : σ9 la = some (eI g 0 (v 0) (fun x9 => nI ((va_up low t nx) x9))) := by rw [hσ9]; exact sset_eq
  have f10 : σ9 (L 0) = some (.inr (1, [.ref (L 1), .ref (L 2), .int (nI (v 2)), .int (nI (v 3)), .int (nI (v 4)), .int (nI (v 5))])) := by rw [hσ9, sset_ne (sto_ne f8 f2 (by simp))]; exact f2
  have f11 : σ9 (L 1) = some (.inr (2, [.int mcT, .ref (L 3), .int (nI (v 0))])) := by rw [hσ9, sset_ne (sto_ne f8 f3 (by simp))]; exact f3
  have j12 := IsList.setI (e := eI g 0 (v 0) (fun x9 => nI ((va_up low t nx) x9))) (j4) (f8)
  rw [← hσ9] at j12
  have f13 : σ9 (L 2) = some (.inr (2, [.int mcP, .ref (L 4), .int (nI (v 1))])) := by rw [hσ9, sset_ne (sto_ne f8 f5 (by simp))]; exact f5
  have j14 := IsList.setI (e := eI g 0 (v 0) (fun x9 => nI ((va_up low t nx) x9))) (j6) (f8)
  rw [← hσ9] at j14
  have f15 : σ9 h = some (.inr (13, [.ref na, .ref la, .int (nI nx), .int (nI br), .ref (L 0)])) := by rw [hσ9, sset_ne (sto_ne f8 f7 (by simp))]; exact f7
  have f16 : σ9 na = some (eI g 0 (v 0) (fun x9 => nI ((va_up num t nx) x9))) := by rw [hσ9, sset_ne (hnl)]; exact w1
  refine lv_aload_n F.x F.cd dX10_visit_20 rfl (lv_at hl 0 rfl) ?_
  refine lv_dup F.x F.cd dX10_visit_21 rfl ?_
  refine s_get F hW (ci := 13) (C := RX10) (T := TX10) (N := 5) (v := .int (nI nx)) (f15) rfl in_X10 2 (by decide) q719 (fun _ h9 => h9) rfl dX10_visit_22 ?_
  refine lv_iconst (v := (nI 1)) F.x F.cd dX10_visit_25 (by decide) ?_
  refine a_iadd (v := (nI (nx + 1))) F (nI_add _ _) dX10_visit_26 ?_
  refine s_put F hW (ci := 13) (C := RX10) (T := TX10) (N := 5) (v := .int (nI (nx + 1))) (ty := .int) (f15) (bh) rfl in_X10 tyX10_ok nmX10 2 (by decide) q719 (fun _ h9 => h9) rfl (by decide +kernel) rfl rfl (Nat.le_of_ble_eq_true rfl) dX10_visit_27 (fun H locs hW => ?_)
  obtain ⟨σ18, hσ18⟩ : ∃ z, z = sset σ9 h (.inr (13, [.ref na, .ref la, .int (nI (nx + 1)), .int (nI br), .ref (L 0)])) := ⟨_, rfl⟩
  have hW : Hl g σ18 H locs := by rw [hσ18]; exact hW
  have w18 : σ18 h = some (.inr (13, [.ref na, .ref la, .int (nI (nx + 1)), .int (nI br), .ref (L 0)])) := by rw [hσ18]; exact sset_eq
  have f19 : σ18 (L 0) = some (.inr (1, [.ref (L 1), .ref (L 2), .int (nI (v 2)), .int (nI (v 3)), .int (nI (v 4)), .int (nI (v 5))])) := by rw [hσ18, sset_ne (sto_ne f15 f10 (by simp))]; exact f10
  have f20 : σ18 (L 1) = some (.inr (2, [.int mcT, .ref (L 3), .int (nI (v 0))])) := by rw [hσ18, sset_ne (sto_ne f15 f11 (by simp))]; exact f11
  have j21 := IsList.setO (e := .inr (13, [.ref na, .ref la, .int (nI (nx + 1)), .int (nI br), .ref (L 0)])) (j12) (f15) (by decide)
  rw [← hσ18] at j21
  have f22 : σ18 (L 2) = some (.inr (2, [.int mcP, .ref (L 4), .int (nI (v 1))])) := by rw [hσ18, sset_ne (sto_ne f15 f13 (by simp))]; exact f13
  have j23 := IsList.setO (e := .inr (13, [.ref na, .ref la, .int (nI (nx + 1)), .int (nI br), .ref (L 0)])) (j14) (f15) (by decide)
  rw [← hσ18] at j23
  have f24 : σ18 na = some (eI g 0 (v 0) (fun x9 => nI ((va_up num t nx) x9))) := by rw [hσ18, sset_ne (sto_ne f15 f16 (by simp))]; exact f16
  have f25 : σ18 la = some (eI g 0 (v 0) (fun x9 => nI ((va_up low t nx) x9))) := by rw [hσ18, sset_ne (sto_ne f15 w9 (by simp))]; exact w9
  refine lv_iconst (v := (nI 0)) F.x F.cd dX10_visit_30 (by decide) ?_
  refine lv_istore_n (lv' := [(3, .int (nI 0)), (0, .ref h), (1, .int (nI t)), (2, .int c)]) F.x F.cd dX10_visit_31 rfl hl (by decide) rfl (fun ls hl => ?_)
  have loop32 : ∀ (n : Nat) (k : Nat) (σk : Sto) (num1 low1 : Nat → Nat) (nx1 br1 : Nat), k + n = v 1 → σk h = some (.inr (13, [.ref na, .ref la, .int (nI nx1), .int (nI br1), .ref (L 0)])) → σk na = some (eI g 0 (v 0) (fun x9 => nI (num1 x9))) → σk la = some (eI g 0 (v 0) (fun x9 => nI (low1 x9))) → Fn σ σk h na la → nx1 + unvN (fun y => decide (0 < num1 y)) 8 ≤ 9 → unvN (fun y => decide (0 < num1 y)) 8 ≤ 2 → VI v c num low nx br t num1 low1 nx1 br1 k → ∀ (H : Heap) (locs : List Loc) (ls : Array Slot), Hl g σk H locs → lv_has ls 4 [(0, .ref h), (1, .int (nI t)), (2, .int c), (3, .int (nI k))] → W p_ l e_ ({ frames := 8, cells := 0, slots := 0, locals := 179 } : Room) s_ m_ args_ below_ meth_ c_ H locs 0 0 Q (F0 m_ 32 ls ([])) := by
    intro n
    induction n with
    | zero =>
      intro k σk num1 low1 nx1 br1 hkn e1 en1 el1 hFk hb1 hu1 hVI H locs ls hW hl
      have hWn := hWk.fn hFk e0 en el
      have hT_k := hWn.2.2.1
      have hP_k := hWn.2.2.2.1
      obtain ⟨mcT_k, nT_k, fT_k, eT_k, bT_k, -⟩ := id hT_k
      obtain ⟨mcP_k, nP_k, fP_k, eP_k, bP_k, -⟩ := id hP_k
      have hv0_k := hI.1
      have hv1_k := hI.2.1
      refine lv_iload_n F.x F.cd dX10_visit_32 rfl (lv_at hl 3 rfl) ?_
      refine lv_aload_n F.x F.cd dX10_visit_33 rfl (lv_at hl 0 rfl) ?_
      refine s_get F hW (ci := 13) (C := RX10) (T := TX10) (N := 5) (v := .ref (L 0)) (e1) rfl in_X10 4 (by decide) q722 (fun _ h9 => h9) rfl dX10_visit_34 ?_
      refine s_getN F hW (ci := 1) (C := RX2) (T := TX2) (N := 6) (v := .ref (L 2)) (hWn.1) rfl in_X2 1 (by decide) q164 (fun _ h9 => h9) rfl dX10_visit_37 ?_
      refine s_callF (As := []) (rest := [.int (nI k)]) (C := RJ2) (T := TJ2) (N := 3) (n := 0) F hW (k_J2_size g l σk _ _ _ _ hP_k) (eP_k) rfl (List.mem_of_getElem? (i := 0) rfl) q715 q272 q274 q72 q276 (by decide +kernel) rfl ⟨⟨Nat.le_of_ble_eq_true rfl, Nat.le_of_ble_eq_true rfl⟩, ⟨(Nat.le_of_ble_eq_true rfl), (Nat.le_of_ble_eq_true rfl)⟩⟩ (Nat.le_of_ble_eq_true rfl) hl.1 rfl dX10_visit_40 cX_no (fun r26 σ26 H locs hp26 hW => ?_)
      obtain ⟨rfl, hs26⟩ := hp26
      rw [hs26] at hW
      refine W.eq (g2 := F0 m_ 45 ls (.int (nI (v 1)) :: .int (nI k) :: [])) rfl ?_
      refine n_icmp_ge (a := k) (b := v 1) (tgt := 110) F (by omega) (by omega) dX10_visit_45 (by decide) (fun c_45 => ?_) (fun c_45 => ?_)
      · subst hQ
        exact s_retv F hW (⟨rfl, _, _, _, _, e1, en1, el1, hFk, hb1, VI.done hp (by rw [← show k = v 1 by omega]; exact hVI)⟩) ⟨(Nat.le_of_ble_eq_true rfl), (Nat.le_of_ble_eq_true rfl)⟩ dX10_visit_110
      · exact absurd c_45 (by omega)
    | succ n ih32 =>
      intro k σk num1 low1 nx1 br1 hkn e1 en1 el1 hFk hb1 hu1 hVI H locs ls hW hl
      have hWn := hWk.fn hFk e0 en el
      have hT_k := hWn.2.2.1
      have hP_k := hWn.2.2.2.1
      obtain ⟨mcT_k, nT_k, fT_k, eT_k, bT_k, -⟩ := id hT_k
      obtain ⟨mcP_k, nP_k, fP_k, eP_k, bP_k, -⟩ := id hP_k
      have hv0_k := hI.1
      have hv1_k := hI.2.1
      refine lv_iload_n F.x F.cd dX10_visit_32 rfl (lv_at hl 3 rfl) ?_
      refine lv_aload_n F.x F.cd dX10_visit_33 rfl (lv_at hl 0 rfl) ?_
      refine s_get F hW (ci := 13) (C := RX10) (T := TX10) (N := 5) (v := .ref (L 0)) (e1) rfl in_X10 4 (by decide) q722 (fun _ h9 => h9) rfl dX10_visit_34 ?_
      refine s_getN F hW (ci := 1) (C := RX2) (T := TX2) (N := 6) (v := .ref (L 2)) (hWn.1) rfl in_X2 1 (by decide) q164 (fun _ h9 => h9) rfl dX10_visit_37 ?_
      refine s_callF (As := []) (rest := [.int (nI k)]) (C := RJ2) (T := TJ2) (N := 3) (n := 0) F hW (k_J2_size g l σk _ _ _ _ hP_k) (eP_k) rfl (List.mem_of_getElem? (i := 0) rfl) q715 q272 q274 q72 q276 (by decide +kernel) rfl ⟨⟨Nat.le_of_ble_eq_true rfl, Nat.le_of_ble_eq_true rfl⟩, ⟨(Nat.le_of_ble_eq_true rfl), (Nat.le_of_ble_eq_true rfl)⟩⟩ (Nat.le_of_ble_eq_true rfl) hl.1 rfl dX10_visit_40 cX_no (fun r27 σ27 H locs hp27 hW => ?_)
      obtain ⟨rfl, hs27⟩ := hp27
      rw [hs27] at hW
      refine W.eq (g2 := F0 m_ 45 ls (.int (nI (v 1)) :: .int (nI k) :: [])) rfl ?_
      refine n_icmp_ge (a := k) (b := v 1) (tgt := 110) F (by omega) (by omega) dX10_visit_45 (by decide) (fun c_45 => ?_) (fun c_45 => ?_)
      · exact absurd c_45 (by omega)
      · have hpq := hI.pp (q := k) (by omega)
        refine lv_iload_n F.x F.cd dX10_visit_48 rfl (lv_at hl 3 rfl) ?_
        refine lv_iload_n F.x F.cd dX10_visit_49 rfl (lv_at hl 2 rfl) ?_
        refine lv_icmp_eq (x := (nI k)) (y := c) (tgt := 104) F.x F.cd dX10_visit_50 (by decide) (fun c_50 => ?_) (fun c_50 => ?_)
        · refine lv_iinc (k := 3) (v := (nI (k + 1))) (lv' := [(3, .int (nI (k + 1))), (0, .ref h), (1, .int (nI t)), (2, .int c)]) F.x F.cd dX10_visit_104 hl rfl (inc_nI k 1) (by decide) rfl (fun ls hl => ?_)
          refine lv_goto (tgt := 32) F.x F.cd dX10_visit_107 (by decide) ?_
          exact ih32 (k + 1) σk num1 low1 nx1 br1 (by omega) (e1) (en1) (el1) (hFk) (hb1) (hu1) (hVI.skip (Or.inl c_50)) H locs ls hW (lv_sub hl [1, 2, 3, 0] rfl)
        · refine lv_aload_n F.x F.cd dX10_visit_53 rfl (lv_at hl 0 rfl) ?_
          refine s_get F hW (ci := 13) (C := RX10) (T := TX10) (N := 5) (v := .ref (L 0)) (e1) rfl in_X10 4 (by decide) q722 (fun _ h9 => h9) rfl dX10_visit_54 ?_
          refine s_getN F hW (ci := 1) (C := RX2) (T := TX2) (N := 6) (v := .ref (L 2)) (hWn.1) rfl in_X2 1 (by decide) q164 (fun _ h9 => h9) rfl dX10_visit_57 ?_
          refine lv_iload_n F.x F.cd dX10_visit_60 rfl (lv_at hl 3 rfl) ?_
          refine s_callF (As := [.int (nI k)]) (rest := []) (C := RJ2) (T := TJ2) (N := 3) (n := 1) F hW (k_J2_get g l σk _ _ _ _ k hP_k (by omega)) (eP_k) rfl (List.mem_of_getElem? (i := 1) rfl) q739 q328 q330 q72 q332 (by decide +kernel) rfl ⟨⟨Nat.le_of_ble_eq_true rfl, Nat.le_of_ble_eq_true rfl⟩, ⟨(Nat.le_of_ble_eq_true rfl), (Nat.le_of_ble_eq_true rfl)⟩⟩ (Nat.le_of_ble_eq_true rfl) hl.1 rfl dX10_visit_61 cX_no (fun r28 σ28 H locs hp28 hW => ?_)
          obtain ⟨rfl, hs28⟩ := hp28
          rw [hs28] at hW
          refine W.eq (g2 := F0 m_ 66 ls (.ref (L (100 + k)) :: [])) rfl ?_
          refine s_cast_ F hW (C := RX5) (T := TX5) (N := 7) ((hWn.2.2.2.2.2.1 k (by omega)).1) rfl q740 dX10_visit_66 ?_
          refine s_callV (As := []) (rest := []) (C := RX5) (T := TX5) (N := 7) (n := 0) F hW (k_X5_isOpen g l σk (L (100 + k)) (pA v k) (pB v k) (pM v k) (pV v k) (pR v k) (pD v k) (pL v k) ((hWn.2.2.2.2.2.1 k (by omega)).1) (by omega) (by omega)) ((hWn.2.2.2.2.2.1 k (by omega)).1) rfl q741 q672 q673 q96 q674 rfl (by decide +kernel) rfl ⟨⟨Nat.le_of_ble_eq_true rfl, Nat.le_of_ble_eq_true rfl⟩, ⟨(Nat.le_of_ble_eq_true rfl), (Nat.le_of_ble_eq_true rfl)⟩⟩ (Nat.le_of_ble_eq_true rfl) hl.1 rfl dX10_visit_69 cX_no (fun r29 σ29 H locs hp29 hW => ?_)
          obtain ⟨rfl, hs29⟩ := hp29
          rw [hs29] at hW
          refine W.eq (g2 := F0 m_ 72 ls (.int (bI (opn (pV v k) (pD v k))) :: [])) rfl ?_
          refine b_if_eq (b := (opn (pV v k) (pD v k))) (tgt := 104) F dX10_visit_72 (by decide) (fun c_72 => ?_) (fun c_72 => ?_)
          · refine lv_iinc (k := 3) (v := (nI (k + 1))) (lv' := [(3, .int (nI (k + 1))), (0, .ref h), (1, .int (nI t)), (2, .int c)]) F.x F.cd dX10_visit_104 hl rfl (inc_nI k 1) (by decide) rfl (fun ls hl => ?_)
            refine lv_goto (tgt := 32) F.x F.cd dX10_visit_107 (by decide) ?_
            exact ih32 (k + 1) σk num1 low1 nx1 br1 (by omega) (e1) (en1) (el1) (hFk) (hb1) (hu1) (hVI.skip (Or.inr (fun z hz => by rw [hz.1] at c_72; cases c_72))) H locs ls hW (lv_sub hl [1, 2, 3, 0] rfl)
          · refine lv_aload_n F.x F.cd dX10_visit_75 rfl (lv_at hl 0 rfl) ?_
            refine s_get F hW (ci := 13) (C := RX10) (T := TX10) (N := 5) (v := .ref (L 0)) (e1) rfl in_X10 4 (by decide) q722 (fun _ h9 => h9) rfl dX10_visit_76 ?_
            refine s_getN F hW (ci := 1) (C := RX2) (T := TX2) (N := 6) (v := .ref (L 2)) (hWn.1) rfl in_X2 1 (by decide) q164 (fun _ h9 => h9) rfl dX10_visit_79 ?_
            refine lv_iload_n F.x F.cd dX10_visit_82 rfl (lv_at hl 3 rfl) ?_
            refine s_callF (As := [.int (nI k)]) (rest := []) (C := RJ2) (T := TJ2) (N := 3) (n := 1) F hW (k_J2_get g l σk _ _ _ _ k hP_k (by omega)) (eP_k) rfl (List.mem_of_getElem? (i := 1) rfl) q739 q328 q330 q72 q332 (by decide +kernel) rfl ⟨⟨Nat.le_of_ble_eq_true rfl, Nat.le_of_ble_eq_true rfl⟩, ⟨(Nat.le_of_ble_eq_true rfl), (Nat.le_of_ble_eq_true rfl)⟩⟩ (Nat.le_of_ble_eq_true rfl) hl.1 rfl dX10_visit_83 cX_no (fun r30 σ30 H locs hp30 hW => ?_)
            obtain ⟨rfl, hs30⟩ := hp30
            rw [hs30] at hW
            refine W.eq (g2 := F0 m_ 88 ls (.ref (L (100 + k)) :: [])) rfl ?_
            refine s_cast_ F hW (C := RX5) (T := TX5) (N := 7) ((hWn.2.2.2.2.2.1 k (by omega)).1) rfl q740 dX10_visit_88 ?_
            refine lv_iload_n F.x F.cd dX10_visit_91 rfl (lv_at hl 1 rfl) ?_
            refine s_callV (As := [.int (nI t)]) (rest := []) (C := RX5) (T := TX5) (N := 7) (n := 1) F hW (k_X5_touches g l σk (L (100 + k)) (pA v k) (pB v k) (pM v k) (pV v k) (pR v k) (pD v k) (pL v k) t ((hWn.2.2.2.2.2.1 k (by omega)).1) (by omega) (by omega) (by omega)) ((hWn.2.2.2.2.2.1 k (by omega)).1) rfl q742 q676 q677 q96 q678 rfl (by decide +kernel) rfl ⟨⟨Nat.le_of_ble_eq_true rfl, Nat.le_of_ble_eq_true rfl⟩, ⟨(Nat.le_of_ble_eq_true rfl), (Nat.le_of_ble_eq_true rfl)⟩⟩ (Nat.le_of_ble_eq_true rfl) hl.1 rfl dX10_visit_92 cX_no (fun r31 σ31 H locs hp31 hW => ?_)
            obtain ⟨rfl, hs31⟩ := hp31
            rw [hs31] at hW
            refine W.eq (g2 := F0 m_ 95 ls (.int (bI (tch (pA v k) (pB v k) t)) :: [])) rfl ?_
            refine b_if_eq (b := (tch (pA v k) (pB v k) t)) (tgt := 104) F dX10_visit_95 (by decide) (fun c_95 => ?_) (fun c_95 => ?_)
            · refine lv_iinc (k := 3) (v := (nI (k + 1))) (lv' := [(3, .int (nI (k + 1))), (0, .ref h), (1, .int (nI t)), (2, .int c)]) F.x F.cd dX10_visit_104 hl rfl (inc_nI k 1) (by decide) rfl (fun ls hl => ?_)
              refine lv_goto (tgt := 32) F.x F.cd dX10_visit_107 (by decide) ?_
              exact ih32 (k + 1) σk num1 low1 nx1 br1 (by omega) (e1) (en1) (el1) (hFk) (hb1) (hu1) (hVI.skip (Or.inr (fun z hz => by have h9 := hz.2; rw [show tch (pA v k) (pB v k) t = true from decide_eq_true (h9.elim (fun h => Or.inl h.1) (fun h => Or.inr h.1))] at c_95; cases c_95))) H locs ls hW (lv_sub hl [1, 2, 3, 0] rfl)
            · refine lv_aload_n F.x F.cd dX10_visit_98 rfl (lv_at hl 0 rfl) ?_
              refine lv_iload_n F.x F.cd dX10_visit_99 rfl (lv_at hl 1 rfl) ?_
              refine lv_iload_n F.x F.cd dX10_visit_100 rfl (lv_at hl 3 rfl) ?_
              refine s_callV (As := [.int (nI t), .int (nI k)]) (rest := []) (C := RX10) (T := TX10) (N := 5) (n := 2) F hW (k_X10_follow_3 g l σk L v h na la t nx br c num low num1 low1 nx1 br1 k hWn hI e1 en1 el1 bh bn bl hnl hp hVI (by omega) c_50 ⟨c_72, tch_oth c_95 (hI.pp (show k < v 1 by omega)).2.2.1⟩ hu1 hb1) (e1) rfl q743 q745 qs4 q108 q746 rfl (by decide +kernel) rfl ⟨⟨Nat.le_of_ble_eq_true rfl, Nat.le_of_ble_eq_true rfl⟩, ⟨(Nat.le_of_ble_eq_true rfl), (Nat.le_of_ble_eq_true rfl)⟩⟩ (Nat.le_of_ble_eq_true rfl) hl.1 rfl dX10_visit_101 cX_no (fun r32 σ32 H locs hp32 hW => ?_)
              obtain ⟨rfl, num2, low2, nx2, br2, e2, en2, el2, hF2, hb2, hm2, hVI2⟩ := hp32
              refine W.eq (g2 := F0 m_ 104 ls ([])) rfl ?_
              refine lv_iinc (k := 3) (v := (nI (k + 1))) (lv' := [(3, .int (nI (k + 1))), (0, .ref h), (1, .int (nI t)), (2, .int c)]) F.x F.cd dX10_visit_104 hl rfl (inc_nI k 1) (by decide) rfl (fun ls hl => ?_)
              refine lv_goto (tgt := 32) F.x F.cd dX10_visit_107 (by decide) ?_
              exact ih32 (k + 1) σ32 num2 low2 nx2 br2 (by omega) (e2) (en2) (el2) (hFk.trans hF2) (hb2) (Nat.le_trans (unvN_le (fun y hy => decide_eq_true (hm2 y (of_decide_eq_true hy))) 8) hu1) (hVI2) H locs ls hW (lv_sub hl [1, 2, 3, 0] rfl)
  exact loop32 (v 1) 0 _ _ _ _ _ (by omega) (w18) (f24) (f25) (by rw [hσ18, hσ9, hσ1]; exact ((Fn.refl.set (Or.inr (Or.inl rfl))).set (Or.inr (Or.inr rfl))).set (Or.inl rfl)) (by have h9 := hlt9; omega) (by have h9 := hlt9; omega) (VI.start hI hp) H locs ls hW (lv_sub hl [1, 2, 3, 0] rfl)
set_option maxHeartbeats 4000000 in
theorem k_X10_follow_4 (g : Gh) (l : Launch) (σ : Sto) (L v : Nat → Nat) (h na la t nx br : Nat) (c : Int32) (num low : Nat → Nat) (num1 low1 : Nat → Nat) (nx1 br1 k : Nat) (hWk : IsWorks g σ L v) (hI : Inv v) (e0 : σ h = some (.inr (13, [.ref na, .ref la, .int (nI nx1), .int (nI br1), .ref (L 0)]))) (en : σ na = some (eI g 0 (v 0) (fun x9 => nI (num1 x9)))) (el : σ la = some (eI g 0 (v 0) (fun x9 => nI (low1 x9)))) (bh : gB g ≤ h) (bn : gB g ≤ na) (bl : gB g ≤ la) (hnl : na ≠ la) (hp : VPre v num nx t c) (hVI : VI v c num low nx br t num1 low1 nx1 br1 k) (hk : k < v 1) (hc0 : nI k ≠ c) (he0 : edg v k t (oth (pA v k) (pB v k) t)) (hun : unvN (fun y => decide (0 < num1 y)) 8 ≤ 3) (hnx : nx1 + unvN (fun y => decide (0 < num1 y)) 8 ≤ 9) : Ct g l yX10_follow cX10_follow 4 none ({ frames := 9, cells := 0, slots := 0, locals := 202 } : Room) [.ref h, .int (nI t), .int (nI k)] σ (fun r σ' => r = none ∧ ∃ (num' low' : Nat → Nat) (nx' br' : Nat), σ' h = some (.inr (13, [.ref na, .ref la, .int (nI nx'), .int (nI br'), .ref (L 0)])) ∧ σ' na = some (eI g 0 (v 0) (fun x9 => nI (num' x9))) ∧ σ' la = some (eI g 0 (v 0) (fun x9 => nI (low' x9))) ∧ Fn σ σ' h na la ∧ nx' + unvN (fun y => decide (0 < num' y)) 8 ≤ 9 ∧ (∀ y, 0 < num1 y → 0 < num' y) ∧ VI v c num low nx br t num' low' nx' br' (k + 1)) (nox) := by
  refine Ct.body (by decide) (Nat.le_of_ble_eq_true rfl) ?_
  intro p_ e_ s_ m_ args_ below_ meth_ c_ ls H locs Q F hW hl hQ
  have hl : lv_has ls 4 [(0, .ref h), (1, .int (nI t)), (2, .int (nI k))] := hl
  have hT := hWk.2.2.1
  have hP := hWk.2.2.2.1
  obtain ⟨mcT, nT, fT, eT, bT, -⟩ := id hT
  obtain ⟨mcP, nP, fP, eP, bP, -⟩ := id hP
  have hv0 := hI.1
  have hv1 := hI.2.1
  have hpq := hI.pp hk
  have htv := hp.2.1
  have hov := oth_lt (t := t) hpq.1 hpq.2.1
  have hnb := fun y => hVI.2.2.2.1.2 y
  have hno := hnb (oth (pA v k) (pB v k) t)
  have hlt := hVI.2.2.2.2.2.2.2.1.1
  have hnn := hVI.2.2.2.1.1
  refine lv_aload_n F.x F.cd dX10_follow_0 rfl (lv_at hl 0 rfl) ?_
  refine s_get F hW (ci := 13) (C := RX10) (T := TX10) (N := 5) (v := .ref (L 0)) (e0) rfl in_X10 4 (by decide) q722 (fun _ h9 => h9) rfl dX10_follow_1 ?_
  refine s_getN F hW (ci := 1) (C := RX2) (T := TX2) (N := 6) (v := .ref (L 2)) (hWk.1) rfl in_X2 1 (by decide) q164 (fun _ h9 => h9) rfl dX10_follow_4 ?_
  refine lv_iload_n F.x F.cd dX10_follow_7 rfl (lv_at hl 2 rfl) ?_
  refine s_callF (As := [.int (nI k)]) (rest := []) (C := RJ2) (T := TJ2) (N := 3) (n := 1) F hW (k_J2_get g l σ _ _ _ _ k hP (by omega)) (eP) rfl (List.mem_of_getElem? (i := 1) rfl) q739 q328 q330 q72 q332 (by decide +kernel) rfl ⟨⟨Nat.le_of_ble_eq_true rfl, Nat.le_of_ble_eq_true rfl⟩, ⟨(Nat.le_of_ble_eq_true rfl), (Nat.le_of_ble_eq_true rfl)⟩⟩ (Nat.le_of_ble_eq_true rfl) hl.1 rfl dX10_follow_8 cX_no (fun r1 σ1 H locs hp1 hW => ?_)
  obtain ⟨rfl, hs1⟩ := hp1
  rw [hs1] at hW
  refine W.eq (g2 := F0 m_ 13 ls (.ref (L (100 + k)) :: [])) rfl ?_
  refine s_cast_ F hW (C := RX5) (T := TX5) (N := 7) ((hWk.2.2.2.2.2.1 k (by omega)).1) rfl q740 dX10_follow_13 ?_
  refine lv_iload_n F.x F.cd dX10_follow_16 rfl (lv_at hl 1 rfl) ?_
  refine s_callV (As := [.int (nI t)]) (rest := []) (C := RX5) (T := TX5) (N := 7) (n := 1) F hW (k_X5_otherEnd g l σ (L (100 + k)) (pA v k) (pB v k) (pM v k) (pV v k) (pR v k) (pD v k) (pL v k) t ((hWk.2.2.2.2.2.1 k (by omega)).1) (by omega) (by omega)) ((hWk.2.2.2.2.2.1 k (by omega)).1) rfl q747 q680 q681 q96 q682 rfl (by decide +kernel) rfl ⟨⟨Nat.le_of_ble_eq_true rfl, Nat.le_of_ble_eq_true rfl⟩, ⟨(Nat.le_of_ble_eq_true rfl), (Nat.le_of_ble_eq_true rfl)⟩⟩ (Nat.le_of_ble_eq_true rfl) hl.1 rfl dX10_follow_17 cX_no (fun r2 σ2 H locs hp2 hW => ?_)
  obtain ⟨rfl, hs2⟩ := hp2
  rw [hs2] at hW
  refine W.eq (g2 := F0 m_ 20 ls (.int (nI (oth (pA v k) (pB v k) t)) :: [])) rfl ?_
  refine lv_istore_n (lv' := [(3, .int (nI (oth (pA v k) (pB v k) t))), (0, .ref h), (1, .int (nI t)), (2, .int (nI k))]) F.x F.cd dX10_follow_20 rfl hl (by decide) rfl (fun ls hl => ?_)
  refine lv_aload_n F.x F.cd dX10_follow_21 rfl (lv_at hl 1 rfl) ?_
  refine s_get F hW (ci := 13) (C := RX10) (T := TX10) (N := 5) (v := .ref na) (e0) rfl in_X10 0 (by decide) q716 (fun _ h9 => h9) rfl dX10_follow_22 ?_
  refine lv_iload_n F.x F.cd dX10_follow_25 rfl (lv_at hl 0 rfl) ?_
  refine n_iald (i := oth (pA v k) (pB v k) t) (n := v 0) (f := (fun x9 => nI (num1 x9))) (x := (nI (num1 (oth (pA v k) (pB v k) t)))) F hW (en) (hov) (by omega) (rfl) dX10_follow_26 ?_
  refine n_if_le (a := num1 (oth (pA v k) (pB v k) t)) (tgt := 54) F (by omega) dX10_follow_27 (by decide) (fun c_27 => ?_) (fun c_27 => ?_)
  · refine lv_aload_n F.x F.cd dX10_follow_54 rfl (lv_at hl 1 rfl) ?_
    refine lv_iload_n F.x F.cd dX10_follow_55 rfl (lv_at hl 0 rfl) ?_
    refine lv_iload_n F.x F.cd dX10_follow_56 rfl (lv_at hl 3 rfl) ?_
    refine s_callV (As := [.int (nI (oth (pA v k) (pB v k) t)), .int (nI k)]) (rest := []) (C := RX10) (T := TX10) (N := 5) (n := 2) F hW (k_X10_visit_3 g l σ L v h na la (oth (pA v k) (pB v k) t) nx1 br1 (nI k) num1 low1 hWk hI e0 en el bh bn bl hnl (hVI.pre hI hp hk he0 c_27) (by omega) (by omega)) (e0) rfl q749 q735 q736 q108 q737 rfl (by decide +kernel) rfl ⟨⟨Nat.le_of_ble_eq_true rfl, Nat.le_of_ble_eq_true rfl⟩, ⟨(Nat.le_of_ble_eq_true rfl), (Nat.le_of_ble_eq_true rfl)⟩⟩ (Nat.le_of_ble_eq_true rfl) hl.1 rfl dX10_follow_57 cX_no (fun r3 σ3 H locs hp3 hW => ?_)
    obtain ⟨rfl, num2, low2, nx2, br2, e2, en2, el2, hF2, hb2, hP2⟩ := hp3
    refine W.eq (g2 := F0 m_ 60 ls ([])) rfl ?_
    have hlo2 := hP2.2.2.2.2.2.2.1.1
    have hlt2 := (hP2.2.1 t (by rw [hVI.1]; exact hp.2.2.1))
    have hnt2 := hP2.2.2.2.1.2 t
    have hl22 := hlt2.2
    rw [← hl22] at hlt
    refine lv_aload_n F.x F.cd dX10_follow_60 rfl (lv_at hl 1 rfl) ?_
    refine s_get F hW (ci := 13) (C := RX10) (T := TX10) (N := 5) (v := .ref la) (e2) rfl in_X10 1 (by decide) q718 (fun _ h9 => h9) rfl dX10_follow_61 ?_
    refine lv_iload_n F.x F.cd dX10_follow_64 rfl (lv_at hl 2 rfl) ?_
    refine lv_aload_n F.x F.cd dX10_follow_65 rfl (lv_at hl 1 rfl) ?_
    refine s_get F hW (ci := 13) (C := RX10) (T := TX10) (N := 5) (v := .ref la) (e2) rfl in_X10 1 (by decide) q718 (fun _ h9 => h9) rfl dX10_follow_66 ?_
    refine lv_iload_n F.x F.cd dX10_follow_69 rfl (lv_at hl 2 rfl) ?_
    refine n_iald (i := t) (n := v 0) (f := (fun x9 => nI (low2 x9))) (x := (nI (low2 t))) F hW (el2) (by omega) (by omega) (rfl) dX10_follow_70 ?_
    refine lv_aload_n F.x F.cd dX10_follow_71 rfl (lv_at hl 1 rfl) ?_
    refine s_get F hW (ci := 13) (C := RX10) (T := TX10) (N := 5) (v := .ref la) (e2) rfl in_X10 1 (by decide) q718 (fun _ h9 => h9) rfl dX10_follow_72 ?_
    refine lv_iload_n F.x F.cd dX10_follow_75 rfl (lv_at hl 0 rfl) ?_
    refine n_iald (i := oth (pA v k) (pB v k) t) (n := v 0) (f := (fun x9 => nI (low2 x9))) (x := (nI (low2 (oth (pA v k) (pB v k) t)))) F hW (el2) (by omega) (by omega) (rfl) dX10_follow_76 ?_
    refine s_mmin (v := (nI (min (low2 t) (low2 (oth (pA v k) (pB v k) t))))) F q748 q453 q87 q454 hl.1 (Nat.le_of_ble_eq_true rfl) (Nat.le_of_ble_eq_true rfl) (Nat.le_of_ble_eq_true rfl) (Nat.le_of_ble_eq_true rfl) (nI_min (by omega) (by omega)) dX10_follow_77 ?_
    refine n_iastN (i := t) F hW (el2) (bl) (by omega) (by omega) dX10_follow_80 (fun H locs hW => ?_)
    obtain ⟨σ4, hσ4⟩ : ∃ z, z = sset σ3 la (eI g 0 (v 0) (fun x9 => nI ((va_up low2 t (min (low2 t) (low2 (oth (pA v k) (pB v k) t)))) x9))) := ⟨_, rfl⟩
    have hW : Hl g σ4 H locs := by rw [hσ4]; exact hW
    have w4 : σ4 la = some (eI g 0 (v 0) (fun x9 => nI ((va_up low2 t (min (low2 t) (low2 (oth (pA v k) (pB v k) t)))) x9))) := by rw [hσ4]; exact sset_eq
    have f5 : σ4 h = some (.inr (13, [.ref na, .ref la, .int (nI nx2), .int (nI br2), .ref (L 0)])) := by rw [hσ4, sset_ne (sto_ne el2 e2 (by simp))]; exact e2
    have f6 : σ4 na = some (eI g 0 (v 0) (fun x9 => nI (num2 x9))) := by rw [hσ4, sset_ne (hnl)]; exact en2
    have hvo : (va_up low2 t (min (low2 t) (low2 (oth (pA v k) (pB v k) t)))) (oth (pA v k) (pB v k) t) = low2 (oth (pA v k) (pB v k) t) := va_up_ne _ _ (edg.ne hI hk he0).symm
    refine lv_aload_n F.x F.cd dX10_follow_81 rfl (lv_at hl 1 rfl) ?_
    refine lv_dup F.x F.cd dX10_follow_82 rfl ?_
    refine s_get F hW (ci := 13) (C := RX10) (T := TX10) (N := 5) (v := .int (nI br2)) (f5) rfl in_X10 3 (by decide) q720 (fun _ h9 => h9) rfl dX10_follow_83 ?_
    refine lv_aload_n F.x F.cd dX10_follow_86 rfl (lv_at hl 1 rfl) ?_
    refine s_get F hW (ci := 13) (C := RX10) (T := TX10) (N := 5) (v := .ref la) (f5) rfl in_X10 1 (by decide) q718 (fun _ h9 => h9) rfl dX10_follow_87 ?_
    refine lv_iload_n F.x F.cd dX10_follow_90 rfl (lv_at hl 0 rfl) ?_
    refine n_iald (i := oth (pA v k) (pB v k) t) (n := v 0) (f := (fun x9 => nI ((va_up low2 t (min (low2 t) (low2 (oth (pA v k) (pB v k) t)))) x9))) (x := (nI ((va_up low2 t (min (low2 t) (low2 (oth (pA v k) (pB v k) t)))) (oth (pA v k) (pB v k) t)))) F hW (w4) (by omega) (by omega) (rfl) dX10_follow_91 ?_
    refine lv_aload_n F.x F.cd dX10_follow_92 rfl (lv_at hl 1 rfl) ?_
    refine s_get F hW (ci := 13) (C := RX10) (T := TX10) (N := 5) (v := .ref na) (f5) rfl in_X10 0 (by decide) q716 (fun _ h9 => h9) rfl dX10_follow_93 ?_
    refine lv_iload_n F.x F.cd dX10_follow_96 rfl (lv_at hl 2 rfl) ?_
    refine n_iald (i := t) (n := v 0) (f := (fun x9 => nI (num2 x9))) (x := (nI (num2 t))) F hW (f6) (by omega) (by omega) (rfl) dX10_follow_97 ?_
    refine n_icmp_le (a := (va_up low2 t (min (low2 t) (low2 (oth (pA v k) (pB v k) t)))) (oth (pA v k) (pB v k) t)) (b := num2 t) (tgt := 105) F (by omega) (by omega) dX10_follow_98 (by decide) (fun c_98 => ?_) (fun c_98 => ?_)
    · refine lv_iconst (v := (nI 0)) F.x F.cd dX10_follow_105 (by decide) ?_
      refine W.eq (g2 := F0 m_ 106 ls (.int (nI (if num2 t < low2 (oth (pA v k) (pB v k) t) then 1 else 0)) :: .int (nI br2) :: .ref h :: [])) (by rw [if_neg (by omega)]) ?_
      refine a_iadd (v := (nI (br2 + (if num2 t < low2 (oth (pA v k) (pB v k) t) then 1 else 0)))) F (nI_add _ _) dX10_follow_106 ?_
      refine s_put F hW (ci := 13) (C := RX10) (T := TX10) (N := 5) (v := .int (nI (br2 + (if num2 t < low2 (oth (pA v k) (pB v k) t) then 1 else 0)))) (ty := .int) (f5) (bh) rfl in_X10 tyX10_ok nmX10 3 (by decide) q720 (fun _ h9 => h9) rfl (by decide +kernel) rfl rfl (Nat.le_of_ble_eq_true rfl) dX10_follow_107 (fun H locs hW => ?_)
      obtain ⟨σ8, hσ8⟩ : ∃ z, z = sset σ4 h (.inr (13, [.ref na, .ref la, .int (nI nx2), .int (nI (br2 + (if num2 t < low2 (oth (pA v k) (pB v k) t) then 1 else 0))), .ref (L 0)])) := ⟨_, rfl⟩
      have hW : Hl g σ8 H locs := by rw [hσ8]; exact hW
      have w8 : σ8 h = some (.inr (13, [.ref na, .ref la, .int (nI nx2), .int (nI (br2 + (if num2 t < low2 (oth (pA v k) (pB v k) t) then 1 else 0))), .ref (L 0)])) := by rw [hσ8]; exact sset_eq
      have f9 : σ8 na = some (eI g 0 (v 0) (fun x9 => nI (num2 x9))) := by rw [hσ8, sset_ne (sto_ne f5 f6 (by simp))]; exact f6
      have f10 : σ8 la = some (eI g 0 (v 0) (fun x9 => nI ((va_up low2 t (min (low2 t) (low2 (oth (pA v k) (pB v k) t)))) x9))) := by rw [hσ8, sset_ne (sto_ne f5 w4 (by simp))]; exact w4
      subst hQ
      exact s_retv F hW (⟨rfl, _, _, _, _, w8, f9, f10, by rw [hσ8, hσ4]; exact (hF2.set (Or.inr (Or.inr rfl))).set (Or.inl rfl), hb2, fun y hy => by rw [(hP2.2.1 y hy).1]; exact hy, hVI.tree hI hp hk hc0 he0 c_27 hP2⟩) ⟨(Nat.le_of_ble_eq_true rfl), (Nat.le_of_ble_eq_true rfl)⟩ dX10_follow_110
    · refine lv_iconst (v := (nI 1)) F.x F.cd dX10_follow_101 (by decide) ?_
      refine lv_goto (tgt := 106) F.x F.cd dX10_follow_102 (by decide) ?_
      refine W.eq (g2 := F0 m_ 106 ls (.int (nI (if num2 t < low2 (oth (pA v k) (pB v k) t) then 1 else 0)) :: .int (nI br2) :: .ref h :: [])) (by rw [if_pos (by omega)]) ?_
      refine a_iadd (v := (nI (br2 + (if num2 t < low2 (oth (pA v k) (pB v k) t) then 1 else 0)))) F (nI_add _ _) dX10_follow_106 ?_
      refine s_put F hW (ci := 13) (C := RX10) (T := TX10) (N := 5) (v := .int (nI (br2 + (if num2 t < low2 (oth (pA v k) (pB v k) t) then 1 else 0)))) (ty := .int) (f5) (bh) rfl in_X10 tyX10_ok nmX10 3 (by decide) q720 (fun _ h9 => h9) rfl (by decide +kernel) rfl rfl (Nat.le_of_ble_eq_true rfl) dX10_follow_107 (fun H locs hW => ?_)
      obtain ⟨σ12, hσ12⟩ : ∃ z, z = sset σ4 h (.inr (13, [.ref na, .ref la, .int (nI nx2), .int (nI (br2 + (if num2 t < low2 (oth (pA v k) (pB v k) t) then 1 else 0))), .ref (L 0)])) := ⟨_, rfl⟩
      have hW : Hl g σ12 H locs := by rw [hσ12]; exact hW
      have w12 : σ12 h = some (.inr (13, [.ref na, .ref la, .int (nI nx2), .int (nI (br2 + (if num2 t < low2 (oth (pA v k) (pB v k) t) then 1 else 0))), .ref (L 0)])) := by rw [hσ12]; exact sset_eq
      have f13 : σ12 na = some (eI g 0 (v 0) (fun x9 => nI (num2 x9))) := by rw [hσ12, sset_ne (sto_ne f5 f6 (by simp))]; exact f6
      have f14 : σ12 la = some (eI g 0 (v 0) (fun x9 => nI ((va_up low2 t (min (low2 t) (low2 (oth (pA v k) (pB v k) t)))) x9))) := by rw [hσ12, sset_ne (sto_ne f5 w4 (by simp))]; exact w4
      subst hQ
      exact s_retv F hW (⟨rfl, _, _, _, _, w12, f13, f14, by rw [hσ12, hσ4]; exact (hF2.set (Or.inr (Or.inr rfl))).set (Or.inl rfl), hb2, fun y hy => by rw [(hP2.2.1 y hy).1]; exact hy, hVI.tree hI hp hk hc0 he0 c_27 hP2⟩) ⟨(Nat.le_of_ble_eq_true rfl), (Nat.le_of_ble_eq_true rfl)⟩ dX10_follow_110
  · refine lv_aload_n F.x F.cd dX10_follow_30 rfl (lv_at hl 1 rfl) ?_
    refine s_get F hW (ci := 13) (C := RX10) (T := TX10) (N := 5) (v := .ref la) (e0) rfl in_X10 1 (by decide) q718 (fun _ h9 => h9) rfl dX10_follow_31 ?_
    refine lv_iload_n F.x F.cd dX10_follow_34 rfl (lv_at hl 2 rfl) ?_
    refine lv_aload_n F.x F.cd dX10_follow_35 rfl (lv_at hl 1 rfl) ?_
    refine s_get F hW (ci := 13) (C := RX10) (T := TX10) (N := 5) (v := .ref la) (e0) rfl in_X10 1 (by decide) q718 (fun _ h9 => h9) rfl dX10_follow_36 ?_
    refine lv_iload_n F.x F.cd dX10_follow_39 rfl (lv_at hl 2 rfl) ?_
    refine n_iald (i := t) (n := v 0) (f := (fun x9 => nI (low1 x9))) (x := (nI (low1 t))) F hW (el) (by omega) (by omega) (rfl) dX10_follow_40 ?_
    refine lv_aload_n F.x F.cd dX10_follow_41 rfl (lv_at hl 1 rfl) ?_
    refine s_get F hW (ci := 13) (C := RX10) (T := TX10) (N := 5) (v := .ref na) (e0) rfl in_X10 0 (by decide) q716 (fun _ h9 => h9) rfl dX10_follow_42 ?_
    refine lv_iload_n F.x F.cd dX10_follow_45 rfl (lv_at hl 0 rfl) ?_
    refine n_iald (i := oth (pA v k) (pB v k) t) (n := v 0) (f := (fun x9 => nI (num1 x9))) (x := (nI (num1 (oth (pA v k) (pB v k) t)))) F hW (en) (hov) (by omega) (rfl) dX10_follow_46 ?_
    refine s_mmin (v := (nI (min (low1 t) (num1 (oth (pA v k) (pB v k) t))))) F q748 q453 q87 q454 hl.1 (Nat.le_of_ble_eq_true rfl) (Nat.le_of_ble_eq_true rfl) (Nat.le_of_ble_eq_true rfl) (Nat.le_of_ble_eq_true rfl) (nI_min (by omega) (by omega)) dX10_follow_47 ?_
    refine n_iastN (i := t) F hW (el) (bl) (by omega) (by omega) dX10_follow_50 (fun H locs hW => ?_)
    obtain ⟨σ15, hσ15⟩ : ∃ z, z = sset σ la (eI g 0 (v 0) (fun x9 => nI ((va_up low1 t (min (low1 t) (num1 (oth (pA v k) (pB v k) t)))) x9))) := ⟨_, rfl⟩
    have hW : Hl g σ15 H locs := by rw [hσ15]; exact hW
    have w15 : σ15 la = some (eI g 0 (v 0) (fun x9 => nI ((va_up low1 t (min (low1 t) (num1 (oth (pA v k) (pB v k) t)))) x9))) := by rw [hσ15]; exact sset_eq
    have f16 : σ15 (L 0) = some (.inr (1, [.ref (L 1), .ref (L 2), .int (nI (v 2)), .int (nI (v 3)), .int (nI (v 4)), .int (nI (v 5))])) := by rw [hσ15, sset_ne (sto_ne el hWk.1 (by simp))]; exact hWk.1
    have f17 : σ15 (L 1) = some (.inr (2, [.int mcT, .ref (L 3), .int (nI (v 0))])) := by rw [hσ15, sset_ne (sto_ne el eT (by simp))]; exact eT
    have j18 := IsList.setI (e := eI g 0 (v 0) (fun x9 => nI ((va_up low1 t (min (low1 t) (num1 (oth (pA v k) (pB v k) t)))) x9))) (hT) (el)
    rw [← hσ15] at j18
    have f19 : σ15 (L 2) = some (.inr (2, [.int mcP, .ref (L 4), .int (nI (v 1))])) := by rw [hσ15, sset_ne (sto_ne el eP (by simp))]; exact eP
    have j20 := IsList.setI (e := eI g 0 (v 0) (fun x9 => nI ((va_up low1 t (min (low1 t) (num1 (oth (pA v k) (pB v k) t)))) x9))) (hP) (el)
    rw [← hσ15] at j20
    have f21 : σ15 h = some (.inr (13, [.ref na, .ref la, .int (nI nx1), .int (nI br1), .ref (L 0)])) := by rw [hσ15, sset_ne (sto_ne el e0 (by simp))]; exact e0
    have f22 : σ15 (L (100 + k)) = some (.inr (9, [.int (nI (pA v k)), .int (nI (pB v k)), .int (nI (pM v k)), .int (nI (pV v k)), .int (nI (pR v k)), .int (nI (pD v k)), .int (nI (pL v k))])) := by rw [hσ15, sset_ne (sto_ne el ((hWk.2.2.2.2.2.1 k (by omega)).1) (by simp))]; exact (hWk.2.2.2.2.2.1 k (by omega)).1
    have f23 : σ15 na = some (eI g 0 (v 0) (fun x9 => nI (num1 x9))) := by rw [hσ15, sset_ne (hnl)]; exact en
    refine lv_goto (tgt := 110) F.x F.cd dX10_follow_51 (by decide) ?_
    subst hQ
    exact s_retv F hW (⟨rfl, _, _, _, _, f21, f23, w15, by rw [hσ15]; exact Fn.refl.set (Or.inr (Or.inr rfl)), hnx, fun y hy => hy, hVI.back hI hp hk hc0 he0 (by omega)⟩) ⟨(Nat.le_of_ble_eq_true rfl), (Nat.le_of_ble_eq_true rfl)⟩ dX10_follow_110
set_option maxHeartbeats 4000000 in
theorem k_X10_visit_4 (g : Gh) (l : Launch) (σ : Sto) (L v : Nat → Nat) (h na la t nx br : Nat) (c : Int32) (num low : Nat → Nat) (hWk : IsWorks g σ L v) (hI : Inv v) (e0 : σ h = some (.inr (13, [.ref na, .ref la, .int (nI nx), .int (nI br), .ref (L 0)]))) (en : σ na = some (eI g 0 (v 0) (fun x9 => nI (num x9)))) (el : σ la = some (eI g 0 (v 0) (fun x9 => nI (low x9)))) (bh : gB g ≤ h) (bn : gB g ≤ na) (bl : gB g ≤ la) (hnl : na ≠ la) (hp : VPre v num nx t c) (hun : unvN (fun y => decide (0 < num y)) 8 ≤ 4) (hnx : nx + unvN (fun y => decide (0 < num y)) 8 ≤ 9) : Ct g l yX10_visit cX10_visit 4 none ({ frames := 10, cells := 0, slots := 0, locals := 225 } : Room) [.ref h, .int (nI t), .int c] σ (fun r σ' => r = none ∧ ∃ (num' low' : Nat → Nat) (nx' br' : Nat), σ' h = some (.inr (13, [.ref na, .ref la, .int (nI nx'), .int (nI br'), .ref (L 0)])) ∧ σ' na = some (eI g 0 (v 0) (fun x9 => nI (num' x9))) ∧ σ' la = some (eI g 0 (v 0) (fun x9 => nI (low' x9))) ∧ Fn σ σ' h na la ∧ nx' + unvN (fun y => decide (0 < num' y)) 8 ≤ 9 ∧ VP v c num low nx br t num' low' nx' br') (nox) := by
  refine Ct.body (by decide) (Nat.le_of_ble_eq_true rfl) ?_
  intro p_ e_ s_ m_ args_ below_ meth_ c_ ls H locs Q F hW hl hQ
  have hl : lv_has ls 4 [(0, .ref h), (1, .int (nI t)), (2, .int c)] := hl
  have hT := hWk.2.2.1
  have hP := hWk.2.2.2.1
  obtain ⟨mcT, nT, fT, eT, bT, -⟩ := id hT
  obtain ⟨mcP, nP, fP, eP, bP, -⟩ := id hP
  have hv0 := hI.1
  have hv1 := hI.2.1
  have hlt9 := unvN_lt (R := fun y => decide (0 < num y)) (R' := fun y => decide (0 < va_up num t nx y)) (fun y hy => by unfold va_up; split; exact decide_eq_true hp.2.2.1; exact hy) (t := t) (decide_eq_false (by rw [hp.1]; decide)) (decide_eq_true (by rw [va_up_self]; exact hp.2.2.1)) 8 (Nat.lt_of_lt_of_le hp.2.1 hI.1)
  have hpv := hp.2.1
  refine lv_aload_n F.x F.cd dX10_visit_0 rfl (lv_at hl 0 rfl) ?_
  refine s_get F hW (ci := 13) (C := RX10) (T := TX10) (N := 5) (v := .ref na) (e0) rfl in_X10 0 (by decide) q716 (fun _ h9 => h9) rfl dX10_visit_1 ?_
  refine lv_iload_n F.x F.cd dX10_visit_4 rfl (lv_at hl 1 rfl) ?_
  refine lv_aload_n F.x F.cd dX10_visit_5 rfl (lv_at hl 0 rfl) ?_
  refine s_get F hW (ci := 13) (C := RX10) (T := TX10) (N := 5) (v := .int (nI nx)) (e0) rfl in_X10 2 (by decide) q719 (fun _ h9 => h9) rfl dX10_visit_6 ?_
  refine n_iastN (i := t) F hW (en) (bn) (hp.2.1) (by omega) dX10_visit_9 (fun H locs hW => ?_)
  obtain ⟨σ1, hσ1⟩ : ∃ z, z = sset σ na (eI g 0 (v 0) (fun x9 => nI ((va_up num t nx) x9))) := ⟨_, rfl⟩
  have hW : Hl g σ1 H locs := by rw [hσ1]; exact hW
  have w1 : σ1 na = some (eI g 0 (v 0) (fun x9 => nI ((va_up num t nx) x9))) := by rw [hσ1]; exact sset_eq
  have f2 : σ1 (L 0) = some (.inr (1, [.ref (L 1), .ref (L 2), .int (nI (v 2)), .int (nI (v 3)), .int (nI (v 4)), .int (nI (v 5))])) := by rw [hσ1, sset_ne (sto_ne en hWk.1 (by simp))]; exact hWk.1
  have f3 : σ1 (L 1) = some (.inr (2, [.int mcT, .ref (L 3), .int (nI (v 0))])) := by rw [hσ1, sset_ne (sto_ne en eT (by simp))]; exact eT
  have j4 := IsList.setI (e := eI g 0 (v 0) (fun x9 => nI ((va_up num t nx) x9))) (hT) (en)
  rw [← hσ1] at j4
  have f5 : σ1 (L 2) = some (.inr (2, [.int mcP, .ref (L 4), .int (nI (v 1))])) := by rw [hσ1, sset_ne (sto_ne en eP (by simp))]; exact eP
  have j6 := IsList.setI (e := eI g 0 (v 0) (fun x9 => nI ((va_up num t nx) x9))) (hP) (en)
  rw [← hσ1] at j6
  have f7 : σ1 h = some (.inr (13, [.ref na, .ref la, .int (nI nx), .int (nI br), .ref (L 0)])) := by rw [hσ1, sset_ne (sto_ne en e0 (by simp))]; exact e0
  have f8 : σ1 la = some (eI g 0 (v 0) (fun x9 => nI (low x9))) := by rw [hσ1, sset_ne (Ne.symm hnl)]; exact el
  refine lv_aload_n F.x F.cd dX10_visit_10 rfl (lv_at hl 0 rfl) ?_
  refine s_get F hW (ci := 13) (C := RX10) (T := TX10) (N := 5) (v := .ref la) (f7) rfl in_X10 1 (by decide) q718 (fun _ h9 => h9) rfl dX10_visit_11 ?_
  refine lv_iload_n F.x F.cd dX10_visit_14 rfl (lv_at hl 1 rfl) ?_
  refine lv_aload_n F.x F.cd dX10_visit_15 rfl (lv_at hl 0 rfl) ?_
  refine s_get F hW (ci := 13) (C := RX10) (T := TX10) (N := 5) (v := .int (nI nx)) (f7) rfl in_X10 2 (by decide) q719 (fun _ h9 => h9) rfl dX10_visit_16 ?_
  refine n_iastN (i := t) F hW (f8) (bl) (hp.2.1) (by omega) dX10_visit_19 (fun H locs hW => ?_)
  obtain ⟨σ9, hσ9⟩ : ∃ z, z = sset σ1 la (eI g 0 (v 0) (fun x9 => nI ((va_up low t nx) x9))) := ⟨_, rfl⟩
  have hW : Hl g σ9 H locs := by rw [hσ9]; exact hW
  have w9 : σ9 la = some (eI g 0 (v 0) (fun x9 => nI ((va_up low t nx) x9))) := by rw [hσ9]; exact sset_eq
  have f10 : σ9 (L 0) = some (.inr (1, [.ref (L 1), .ref (L 2), .int (nI (v 2)), .int (nI (v 3)), .int (nI (v 4)), .int (nI (v 5))])) := by rw [hσ9, sset_ne (sto_ne f8 f2 (by simp))]; exact f2
  have f11 : σ9 (L 1) = some (.inr (2, [.int mcT, .ref (L 3), .int (nI (v 0))])) := by rw [hσ9, sset_ne (sto_ne f8 f3 (by simp))]; exact f3
  have j12 := IsList.setI (e := eI g 0 (v 0) (fun x9 => nI ((va_up low t nx) x9))) (j4) (f8)
  rw [← hσ9] at j12
  have f13 : σ9 (L 2) = some (.inr (2, [.int mcP, .ref (L 4), .int (nI (v 1))])) := by rw [hσ9, sset_ne (sto_ne f8 f5 (by simp))]; exact f5
  have j14 := IsList.setI (e := eI g 0 (v 0) (fun x9 => nI ((va_up low t nx) x9))) (j6) (f8)
  rw [← hσ9] at j14
  have f15 : σ9 h = some (.inr (13, [.ref na, .ref la, .int (nI nx), .int (nI br), .ref (L 0)])) := by rw [hσ9, sset_ne (sto_ne f8 f7 (by simp))]; exact f7
  have f16 : σ9 na = some (eI g 0 (v 0) (fun x9 => nI ((va_up num t nx) x9))) := by rw [hσ9, sset_ne (hnl)]; exact w1
  refine lv_aload_n F.x F.cd dX10_visit_20 rfl (lv_at hl 0 rfl) ?_
  refine lv_dup F.x F.cd dX10_visit_21 rfl ?_
  refine s_get F hW (ci := 13) (C := RX10) (T := TX10) (N := 5) (v := .int (nI nx)) (f15) rfl in_X10 2 (by decide) q719 (fun _ h9 => h9) rfl dX10_visit_22 ?_
  refine lv_iconst (v := (nI 1)) F.x F.cd dX10_visit_25 (by decide) ?_
  refine a_iadd (v := (nI (nx + 1))) F (nI_add _ _) dX10_visit_26 ?_
  refine s_put F hW (ci := 13) (C := RX10) (T := TX10) (N := 5) (v := .int (nI (nx + 1))) (ty := .int) (f15) (bh) rfl in_X10 tyX10_ok nmX10 2 (by decide) q719 (fun _ h9 => h9) rfl (by decide +kernel) rfl rfl (Nat.le_of_ble_eq_true rfl) dX10_visit_27 (fun H locs hW => ?_)
  obtain ⟨σ18, hσ18⟩ : ∃ z, z = sset σ9 h (.inr (13, [.ref na, .ref la, .int (nI (nx + 1)), .int (nI br), .ref (L 0)])) := ⟨_, rfl⟩
  have hW : Hl g σ18 H locs := by rw [hσ18]; exact hW
  have w18 : σ18 h = some (.inr (13, [.ref na, .ref la, .int (nI (nx + 1)), .int (nI br), .ref (L 0)])) := by rw [hσ18]; exact sset_eq
  have f19 : σ18 (L 0) = some (.inr (1, [.ref (L 1), .ref (L 2), .int (nI (v 2)), .int (nI (v 3)), .int (nI (v 4)), .int (nI (v 5))])) := by rw [hσ18, sset_ne (sto_ne f15 f10 (by simp))]; exact f10
  have f20 : σ18 (L 1) = some (.inr (2, [.int mcT, .ref (L 3), .int (nI (v 0))])) := by rw [hσ18, sset_ne (sto_ne f15 f11 (by simp))]; exact f11
  have j21 := IsList.setO (e := .inr (13, [.ref na, .ref la, .int (nI (nx + 1)), .int (nI br), .ref (L 0)])) (j12) (f15) (by decide)
  rw [← hσ18] at j21
  have f22 : σ18 (L 2) = some (.inr (2, [.int mcP, .ref (L 4), .int (nI (v 1))])) := by rw [hσ18, sset_ne (sto_ne f15 f13 (by simp))]; exact f13
  have j23 := IsList.setO (e := .inr (13, [.ref na, .ref la, .int (nI (nx + 1)), .int (nI br), .ref (L 0)])) (j14) (f15) (by decide)
  rw [← hσ18] at j23
  have f24 : σ18 na = some (eI g 0 (v 0) (fun x9 => nI ((va_up num t nx) x9))) := by rw [hσ18, sset_ne (sto_ne f15 f16 (by simp))]; exact f16
  have f25 : σ18 la = some (eI g 0 (v 0) (fun x9 => nI ((va_up low t nx) x9))) := by rw [hσ18, sset_ne (sto_ne f15 w9 (by simp))]; exact w9
  refine lv_iconst (v := (nI 0)) F.x F.cd dX10_visit_30 (by decide) ?_
  refine lv_istore_n (lv' := [(3, .int (nI 0)), (0, .ref h), (1, .int (nI t)), (2, .int c)]) F.x F.cd dX10_visit_31 rfl hl (by decide) rfl (fun ls hl => ?_)
  have loop32 : ∀ (n : Nat) (k : Nat) (σk : Sto) (num1 low1 : Nat → Nat) (nx1 br1 : Nat), k + n = v 1 → σk h = some (.inr (13, [.ref na, .ref la, .int (nI nx1), .int (nI br1), .ref (L 0)])) → σk na = some (eI g 0 (v 0) (fun x9 => nI (num1 x9))) → σk la = some (eI g 0 (v 0) (fun x9 => nI (low1 x9))) → Fn σ σk h na la → nx1 + unvN (fun y => decide (0 < num1 y)) 8 ≤ 9 → unvN (fun y => decide (0 < num1 y)) 8 ≤ 3 → VI v c num low nx br t num1 low1 nx1 br1 k → ∀ (H : Heap) (locs : List Loc) (ls : Array Slot), Hl g σk H locs → lv_has ls 4 [(0, .ref h), (1, .int (nI t)), (2, .int c), (3, .int (nI k))] → W p_ l e_ ({ frames := 10, cells := 0, slots := 0, locals := 225 } : Room) s_ m_ args_ below_ meth_ c_ H locs 0 0 Q (F0 m_ 32 ls ([])) := by
    intro n
    induction n with
    | zero =>
      intro k σk num1 low1 nx1 br1 hkn e1 en1 el1 hFk hb1 hu1 hVI H locs ls hW hl
      have hWn := hWk.fn hFk e0 en el
      have hT_k := hWn.2.2.1
      have hP_k := hWn.2.2.2.1
      obtain ⟨mcT_k, nT_k, fT_k, eT_k, bT_k, -⟩ := id hT_k
      obtain ⟨mcP_k, nP_k, fP_k, eP_k, bP_k, -⟩ := id hP_k
      have hv0_k := hI.1
      have hv1_k := hI.2.1
      refine lv_iload_n F.x F.cd dX10_visit_32 rfl (lv_at hl 3 rfl) ?_
      refine lv_aload_n F.x F.cd dX10_visit_33 rfl (lv_at hl 0 rfl) ?_
      refine s_get F hW (ci := 13) (C := RX10) (T := TX10) (N := 5) (v := .ref (L 0)) (e1) rfl in_X10 4 (by decide) q722 (fun _ h9 => h9) rfl dX10_visit_34 ?_
      refine s_getN F hW (ci := 1) (C := RX2) (T := TX2) (N := 6) (v := .ref (L 2)) (hWn.1) rfl in_X2 1 (by decide) q164 (fun _ h9 => h9) rfl dX10_visit_37 ?_
      refine s_callF (As := []) (rest := [.int (nI k)]) (C := RJ2) (T := TJ2) (N := 3) (n := 0) F hW (k_J2_size g l σk _ _ _ _ hP_k) (eP_k) rfl (List.mem_of_getElem? (i := 0) rfl) q715 q272 q274 q72 q276 (by decide +kernel) rfl ⟨⟨Nat.le_of_ble_eq_true rfl, Nat.le_of_ble_eq_true rfl⟩, ⟨(Nat.le_of_ble_eq_true rfl), (Nat.le_of_ble_eq_true rfl)⟩⟩ (Nat.le_of_ble_eq_true rfl) hl.1 rfl dX10_visit_40 cX_no (fun r26 σ26 H locs hp26 hW => ?_)
      obtain ⟨rfl, hs26⟩ := hp26
      rw [hs26] at hW
      refine W.eq (g2 := F0 m_ 45 ls (.int (nI (v 1)) :: .int (nI k) :: [])) rfl ?_
      refine n_icmp_ge (a := k) (b := v 1) (tgt := 110) F (by omega) (by omega) dX10_visit_45 (by decide) (fun c_45 => ?_) (fun c_45 => ?_)
      · subst hQ
        exact s_retv F hW (⟨rfl, _, _, _, _, e1, en1, el1, hFk, hb1, VI.done hp (by rw [← show k = v 1 by omega]; exact hVI)⟩) ⟨(Nat.le_of_ble_eq_true rfl), (Nat.le_of_ble_eq_true rfl)⟩ dX10_visit_110
      · exact absurd c_45 (by omega)
    | succ n ih32 =>
      intro k σk num1 low1 nx1 br1 hkn e1 en1 el1 hFk hb1 hu1 hVI H locs ls hW hl
      have hWn := hWk.fn hFk e0 en el
      have hT_k := hWn.2.2.1
      have hP_k := hWn.2.2.2.1
      obtain ⟨mcT_k, nT_k, fT_k, eT_k, bT_k, -⟩ := id hT_k
      obtain ⟨mcP_k, nP_k, fP_k, eP_k, bP_k, -⟩ := id hP_k
      have hv0_k := hI.1
      have hv1_k := hI.2.1
      refine lv_iload_n F.x F.cd dX10_visit_32 rfl (lv_at hl 3 rfl) ?_
      refine lv_aload_n F.x F.cd dX10_visit_33 rfl (lv_at hl 0 rfl) ?_
      refine s_get F hW (ci := 13) (C := RX10) (T := TX10) (N := 5) (v := .ref (L 0)) (e1) rfl in_X10 4 (by decide) q722 (fun _ h9 => h9) rfl dX10_visit_34 ?_
      refine s_getN F hW (ci := 1) (C := RX2) (T := TX2) (N := 6) (v := .ref (L 2)) (hWn.1) rfl in_X2 1 (by decide) q164 (fun _ h9 => h9) rfl dX10_visit_37 ?_
      refine s_callF (As := []) (rest := [.int (nI k)]) (C := RJ2) (T := TJ2) (N := 3) (n := 0) F hW (k_J2_size g l σk _ _ _ _ hP_k) (eP_k) rfl (List.mem_of_getElem? (i := 0) rfl) q715 q272 q274 q72 q276 (by decide +kernel) rfl ⟨⟨Nat.le_of_ble_eq_true rfl, Nat.le_of_ble_eq_true rfl⟩, ⟨(Nat.le_of_ble_eq_true rfl), (Nat.le_of_ble_eq_true rfl)⟩⟩ (Nat.le_of_ble_eq_true rfl) hl.1 rfl dX10_visit_40 cX_no (fun r27 σ27 H locs hp27 hW => ?_)
      obtain ⟨rfl, hs27⟩ := hp27
      rw [hs27] at hW
      refine W.eq (g2 := F0 m_ 45 ls (.int (nI (v 1)) :: .int (nI k) :: [])) rfl ?_
      refine n_icmp_ge (a := k) (b := v 1) (tgt := 110) F (by omega) (by omega) dX10_visit_45 (by decide) (fun c_45 => ?_) (fun c_45 => ?_)
      · exact absurd c_45 (by omega)
      · have hpq := hI.pp (q := k) (by omega)
        refine lv_iload_n F.x F.cd dX10_visit_48 rfl (lv_at hl 3 rfl) ?_
        refine lv_iload_n F.x F.cd dX10_visit_49 rfl (lv_at hl 2 rfl) ?_
        refine lv_icmp_eq (x := (nI k)) (y := c) (tgt := 104) F.x F.cd dX10_visit_50 (by decide) (fun c_50 => ?_) (fun c_50 => ?_)
        · refine lv_iinc (k := 3) (v := (nI (k + 1))) (lv' := [(3, .int (nI (k + 1))), (0, .ref h), (1, .int (nI t)), (2, .int c)]) F.x F.cd dX10_visit_104 hl rfl (inc_nI k 1) (by decide) rfl (fun ls hl => ?_)
          refine lv_goto (tgt := 32) F.x F.cd dX10_visit_107 (by decide) ?_
          exact ih32 (k + 1) σk num1 low1 nx1 br1 (by omega) (e1) (en1) (el1) (hFk) (hb1) (hu1) (hVI.skip (Or.inl c_50)) H locs ls hW (lv_sub hl [1, 2, 3, 0] rfl)
        · refine lv_aload_n F.x F.cd dX10_visit_53 rfl (lv_at hl 0 rfl) ?_
          refine s_get F hW (ci := 13) (C := RX10) (T := TX10) (N := 5) (v := .ref (L 0)) (e1) rfl in_X10 4 (by decide) q722 (fun _ h9 => h9) rfl dX10_visit_54 ?_
          refine s_getN F hW (ci := 1) (C := RX2) (T := TX2) (N := 6) (v := .ref (L 2)) (hWn.1) rfl in_X2 1 (by decide) q164 (fun _ h9 => h9) rfl dX10_visit_57 ?_
          refine lv_iload_n F.x F.cd dX10_visit_60 rfl (lv_at hl 3 rfl) ?_
          refine s_callF (As := [.int (nI k)]) (rest := []) (C := RJ2) (T := TJ2) (N := 3) (n := 1) F hW (k_J2_get g l σk _ _ _ _ k hP_k (by omega)) (eP_k) rfl (List.mem_of_getElem? (i := 1) rfl) q739 q328 q330 q72 q332 (by decide +kernel) rfl ⟨⟨Nat.le_of_ble_eq_true rfl, Nat.le_of_ble_eq_true rfl⟩, ⟨(Nat.le_of_ble_eq_true rfl), (Nat.le_of_ble_eq_true rfl)⟩⟩ (Nat.le_of_ble_eq_true rfl) hl.1 rfl dX10_visit_61 cX_no (fun r28 σ28 H locs hp28 hW => ?_)
          obtain ⟨rfl, hs28⟩ := hp28
          rw [hs28] at hW
          refine W.eq (g2 := F0 m_ 66 ls (.ref (L (100 + k)) :: [])) rfl ?_
          refine s_cast_ F hW (C := RX5) (T := TX5) (N := 7) ((hWn.2.2.2.2.2.1 k (by omega)).1) rfl q740 dX10_visit_66 ?_
          refine s_callV (As := []) (rest := []) (C := RX5) (T := TX5) (N := 7) (n := 0) F hW (k_X5_isOpen g l σk (L (100 + k)) (pA v k) (pB v k) (pM v k) (pV v k) (pR v k) (pD v k) (pL v k) ((hWn.2.2.2.2.2.1 k (by omega)).1) (by omega) (by omega)) ((hWn.2.2.2.2.2.1 k (by omega)).1) rfl q741 q672 q673 q96 q674 rfl (by decide +kernel) rfl ⟨⟨Nat.le_of_ble_eq_true rfl, Nat.le_of_ble_eq_true rfl⟩, ⟨(Nat.le_of_ble_eq_true rfl), (Nat.le_of_ble_eq_true rfl)⟩⟩ (Nat.le_of_ble_eq_true rfl) hl.1 rfl dX10_visit_69 cX_no (fun r29 σ29 H locs hp29 hW => ?_)
          obtain ⟨rfl, hs29⟩ := hp29
          rw [hs29] at hW
          refine W.eq (g2 := F0 m_ 72 ls (.int (bI (opn (pV v k) (pD v k))) :: [])) rfl ?_
          refine b_if_eq (b := (opn (pV v k) (pD v k))) (tgt := 104) F dX10_visit_72 (by decide) (fun c_72 => ?_) (fun c_72 => ?_)
          · refine lv_iinc (k := 3) (v := (nI (k + 1))) (lv' := [(3, .int (nI (k + 1))), (0, .ref h), (1, .int (nI t)), (2, .int c)]) F.x F.cd dX10_visit_104 hl rfl (inc_nI k 1) (by decide) rfl (fun ls hl => ?_)
            refine lv_goto (tgt := 32) F.x F.cd dX10_visit_107 (by decide) ?_
            exact ih32 (k + 1) σk num1 low1 nx1 br1 (by omega) (e1) (en1) (el1) (hFk) (hb1) (hu1) (hVI.skip (Or.inr (fun z hz => by rw [hz.1] at c_72; cases c_72))) H locs ls hW (lv_sub hl [1, 2, 3, 0] rfl)
          · refine lv_aload_n F.x F.cd dX10_visit_75 rfl (lv_at hl 0 rfl) ?_
            refine s_get F hW (ci := 13) (C := RX10) (T := TX10) (N := 5) (v := .ref (L 0)) (e1) rfl in_X10 4 (by decide) q722 (fun _ h9 => h9) rfl dX10_visit_76 ?_
            refine s_getN F hW (ci := 1) (C := RX2) (T := TX2) (N := 6) (v := .ref (L 2)) (hWn.1) rfl in_X2 1 (by decide) q164 (fun _ h9 => h9) rfl dX10_visit_79 ?_
            refine lv_iload_n F.x F.cd dX10_visit_82 rfl (lv_at hl 3 rfl) ?_
            refine s_callF (As := [.int (nI k)]) (rest := []) (C := RJ2) (T := TJ2) (N := 3) (n := 1) F hW (k_J2_get g l σk _ _ _ _ k hP_k (by omega)) (eP_k) rfl (List.mem_of_getElem? (i := 1) rfl) q739 q328 q330 q72 q332 (by decide +kernel) rfl ⟨⟨Nat.le_of_ble_eq_true rfl, Nat.le_of_ble_eq_true rfl⟩, ⟨(Nat.le_of_ble_eq_true rfl), (Nat.le_of_ble_eq_true rfl)⟩⟩ (Nat.le_of_ble_eq_true rfl) hl.1 rfl dX10_visit_83 cX_no (fun r30 σ30 H locs hp30 hW => ?_)
            obtain ⟨rfl, hs30⟩ := hp30
            rw [hs30] at hW
            refine W.eq (g2 := F0 m_ 88 ls (.ref (L (100 + k)) :: [])) rfl ?_
            refine s_cast_ F hW (C := RX5) (T := TX5) (N := 7) ((hWn.2.2.2.2.2.1 k (by omega)).1) rfl q740 dX10_visit_88 ?_
            refine lv_iload_n F.x F.cd dX10_visit_91 rfl (lv_at hl 1 rfl) ?_
            refine s_callV (As := [.int (nI t)]) (rest := []) (C := RX5) (T := TX5) (N := 7) (n := 1) F hW (k_X5_touches g l σk (L (100 + k)) (pA v k) (pB v k) (pM v k) (pV v k) (pR v k) (pD v k) (pL v k) t ((hWn.2.2.2.2.2.1 k (by omega)).1) (by omega) (by omega) (by omega)) ((hWn.2.2.2.2.2.1 k (by omega)).1) rfl q742 q676 q677 q96 q678 rfl (by decide +kernel) rfl ⟨⟨Nat.le_of_ble_eq_true rfl, Nat.le_of_ble_eq_true rfl⟩, ⟨(Nat.le_of_ble_eq_true rfl), (Nat.le_of_ble_eq_true rfl)⟩⟩ (Nat.le_of_ble_eq_true rfl) hl.1 rfl dX10_visit_92 cX_no (fun r31 σ31 H locs hp31 hW => ?_)
            obtain ⟨rfl, hs31⟩ := hp31
            rw [hs31] at hW
            refine W.eq (g2 := F0 m_ 95 ls (.int (bI (tch (pA v k) (pB v k) t)) :: [])) rfl ?_
            refine b_if_eq (b := (tch (pA v k) (pB v k) t)) (tgt := 104) F dX10_visit_95 (by decide) (fun c_95 => ?_) (fun c_95 => ?_)
            · refine lv_iinc (k := 3) (v := (nI (k + 1))) (lv' := [(3, .int (nI (k + 1))), (0, .ref h), (1, .int (nI t)), (2, .int c)]) F.x F.cd dX10_visit_104 hl rfl (inc_nI k 1) (by decide) rfl (fun ls hl => ?_)
              refine lv_goto (tgt := 32) F.x F.cd dX10_visit_107 (by decide) ?_
              exact ih32 (k + 1) σk num1 low1 nx1 br1 (by omega) (e1) (en1) (el1) (hFk) (hb1) (hu1) (hVI.skip (Or.inr (fun z hz => by have h9 := hz.2; rw [show tch (pA v k) (pB v k) t = true from decide_eq_true (h9.elim (fun h => Or.inl h.1) (fun h => Or.inr h.1))] at c_95; cases c_95))) H locs ls hW (lv_sub hl [1, 2, 3, 0] rfl)
            · refine lv_aload_n F.x F.cd dX10_visit_98 rfl (lv_at hl 0 rfl) ?_
              refine lv_iload_n F.x F.cd dX10_visit_99 rfl (lv_at hl 1 rfl) ?_
              refine lv_iload_n F.x F.cd dX10_visit_100 rfl (lv_at hl 3 rfl) ?_
              refine s_callV (As := [.int (nI t), .int (nI k)]) (rest := []) (C := RX10) (T := TX10) (N := 5) (n := 2) F hW (k_X10_follow_4 g l σk L v h na la t nx br c num low num1 low1 nx1 br1 k hWn hI e1 en1 el1 bh bn bl hnl hp hVI (by omega) c_50 ⟨c_72, tch_oth c_95 (hI.pp (show k < v 1 by omega)).2.2.1⟩ hu1 hb1) (e1) rfl q743 q745 qs4 q108 q746 rfl (by decide +kernel) rfl ⟨⟨Nat.le_of_ble_eq_true rfl, Nat.le_of_ble_eq_true rfl⟩, ⟨(Nat.le_of_ble_eq_true rfl), (Nat.le_of_ble_eq_true rfl)⟩⟩ (Nat.le_of_ble_eq_true rfl) hl.1 rfl dX10_visit_101 cX_no (fun r32 σ32 H locs hp32 hW => ?_)
              obtain ⟨rfl, num2, low2, nx2, br2, e2, en2, el2, hF2, hb2, hm2, hVI2⟩ := hp32
              refine W.eq (g2 := F0 m_ 104 ls ([])) rfl ?_
              refine lv_iinc (k := 3) (v := (nI (k + 1))) (lv' := [(3, .int (nI (k + 1))), (0, .ref h), (1, .int (nI t)), (2, .int c)]) F.x F.cd dX10_visit_104 hl rfl (inc_nI k 1) (by decide) rfl (fun ls hl => ?_)
              refine lv_goto (tgt := 32) F.x F.cd dX10_visit_107 (by decide) ?_
              exact ih32 (k + 1) σ32 num2 low2 nx2 br2 (by omega) (e2) (en2) (el2) (hFk.trans hF2) (hb2) (Nat.le_trans (unvN_le (fun y hy => decide_eq_true (hm2 y (of_decide_eq_true hy))) 8) hu1) (hVI2) H locs ls hW (lv_sub hl [1, 2, 3, 0] rfl)
  exact loop32 (v 1) 0 _ _ _ _ _ (by omega) (w18) (f24) (f25) (by rw [hσ18, hσ9, hσ1]; exact ((Fn.refl.set (Or.inr (Or.inl rfl))).set (Or.inr (Or.inr rfl))).set (Or.inl rfl)) (by have h9 := hlt9; omega) (by have h9 := hlt9; omega) (VI.start hI hp) H locs ls hW (lv_sub hl [1, 2, 3, 0] rfl)
set_option maxHeartbeats 4000000 in
theorem k_X10_follow_5 (g : Gh) (l : Launch) (σ : Sto) (L v : Nat → Nat) (h na la t nx br : Nat) (c : Int32) (num low : Nat → Nat) (num1 low1 : Nat → Nat) (nx1 br1 k : Nat) (hWk : IsWorks g σ L v) (hI : Inv v) (e0 : σ h = some (.inr (13, [.ref na, .ref la, .int (nI nx1), .int (nI br1), .ref (L 0)]))) (en : σ na = some (eI g 0 (v 0) (fun x9 => nI (num1 x9)))) (el : σ la = some (eI g 0 (v 0) (fun x9 => nI (low1 x9)))) (bh : gB g ≤ h) (bn : gB g ≤ na) (bl : gB g ≤ la) (hnl : na ≠ la) (hp : VPre v num nx t c) (hVI : VI v c num low nx br t num1 low1 nx1 br1 k) (hk : k < v 1) (hc0 : nI k ≠ c) (he0 : edg v k t (oth (pA v k) (pB v k) t)) (hun : unvN (fun y => decide (0 < num1 y)) 8 ≤ 4) (hnx : nx1 + unvN (fun y => decide (0 < num1 y)) 8 ≤ 9) : Ct g l yX10_follow cX10_follow 4 none ({ frames := 11, cells := 0, slots := 0, locals := 248 } : Room) [.ref h, .int (nI t), .int (nI k)] σ (fun r σ' => r = none ∧ ∃ (num' low' : Nat → Nat) (nx' br' : Nat), σ' h = some (.inr (13, [.ref na, .ref la, .int (nI nx'), .int (nI br'), .ref (L 0)])) ∧ σ' na = some (eI g 0 (v 0) (fun x9 => nI (num' x9))) ∧ σ' la = some (eI g 0 (v 0) (fun x9 => nI (low' x9))) ∧ Fn σ σ' h na la ∧ nx' + unvN (fun y => decide (0 < num' y)) 8 ≤ 9 ∧ (∀ y, 0 < num1 y → 0 < num' y) ∧ VI v c num low nx br t num' low' nx' br' (k + 1)) (nox) := by
  refine Ct.body (by decide) (Nat.le_of_ble_eq_true rfl) ?_
  intro p_ e_ s_ m_ args_ below_ meth_ c_ ls H locs Q F hW hl hQ
  have hl : lv_has ls 4 [(0, .ref h), (1, .int (nI t)), (2, .int (nI k))] := hl
  have hT := hWk.2.2.1
  have hP := hWk.2.2.2.1
  obtain ⟨mcT, nT, fT, eT, bT, -⟩ := id hT
  obtain ⟨mcP, nP, fP, eP, bP, -⟩ := id hP
  have hv0 := hI.1
  have hv1 := hI.2.1
  have hpq := hI.pp hk
  have htv := hp.2.1
  have hov := oth_lt (t := t) hpq.1 hpq.2.1
  have hnb := fun y => hVI.2.2.2.1.2 y
  have hno := hnb (oth (pA v k) (pB v k) t)
  have hlt := hVI.2.2.2.2.2.2.2.1.1
  have hnn := hVI.2.2.2.1.1
  refine lv_aload_n F.x F.cd dX10_follow_0 rfl (lv_at hl 0 rfl) ?_
  refine s_get F hW (ci := 13) (C := RX10) (T := TX10) (N := 5) (v := .ref (L 0)) (e0) rfl in_X10 4 (by decide) q722 (fun _ h9 => h9) rfl dX10_follow_1 ?_
  refine s_getN F hW (ci := 1) (C := RX2) (T := TX2) (N := 6) (v := .ref (L 2)) (hWk.1) rfl in_X2 1 (by decide) q164 (fun _ h9 => h9) rfl dX10_follow_4 ?_
  refine lv_iload_n F.x F.cd dX10_follow_7 rfl (lv_at hl 2 rfl) ?_
  refine s_callF (As := [.int (nI k)]) (rest := []) (C := RJ2) (T := TJ2) (N := 3) (n := 1) F hW (k_J2_get g l σ _ _ _ _ k hP (by omega)) (eP) rfl (List.mem_of_getElem? (i := 1) rfl) q739 q328 q330 q72 q332 (by decide +kernel) rfl ⟨⟨Nat.le_of_ble_eq_true rfl, Nat.le_of_ble_eq_true rfl⟩, ⟨(Nat.le_of_ble_eq_true rfl), (Nat.le_of_ble_eq_true rfl)⟩⟩ (Nat.le_of_ble_eq_true rfl) hl.1 rfl dX10_follow_8 cX_no (fun r1 σ1 H locs hp1 hW => ?_)
  obtain ⟨rfl, hs1⟩ := hp1
  rw [hs1] at hW
  refine W.eq (g2 := F0 m_ 13 ls (.ref (L (100 + k)) :: [])) rfl ?_
  refine s_cast_ F hW (C := RX5) (T := TX5) (N := 7) ((hWk.2.2.2.2.2.1 k (by omega)).1) rfl q740 dX10_follow_13 ?_
  refine lv_iload_n F.x F.cd dX10_follow_16 rfl (lv_at hl 1 rfl) ?_
  refine s_callV (As := [.int (nI t)]) (rest := []) (C := RX5) (T := TX5) (N := 7) (n := 1) F hW (k_X5_otherEnd g l σ (L (100 + k)) (pA v k) (pB v k) (pM v k) (pV v k) (pR v k) (pD v k) (pL v k) t ((hWk.2.2.2.2.2.1 k (by omega)).1) (by omega) (by omega)) ((hWk.2.2.2.2.2.1 k (by omega)).1) rfl q747 q680 q681 q96 q682 rfl (by decide +kernel) rfl ⟨⟨Nat.le_of_ble_eq_true rfl, Nat.le_of_ble_eq_true rfl⟩, ⟨(Nat.le_of_ble_eq_true rfl), (Nat.le_of_ble_eq_true rfl)⟩⟩ (Nat.le_of_ble_eq_true rfl) hl.1 rfl dX10_follow_17 cX_no (fun r2 σ2 H locs hp2 hW => ?_)
  obtain ⟨rfl, hs2⟩ := hp2
  rw [hs2] at hW
  refine W.eq (g2 := F0 m_ 20 ls (.int (nI (oth (pA v k) (pB v k) t)) :: [])) rfl ?_
  refine lv_istore_n (lv' := [(3, .int (nI (oth (pA v k) (pB v k) t))), (0, .ref h), (1, .int (nI t)), (2, .int (nI k))]) F.x F.cd dX10_follow_20 rfl hl (by decide) rfl (fun ls hl => ?_)
  refine lv_aload_n F.x F.cd dX10_follow_21 rfl (lv_at hl 1 rfl) ?_
  refine s_get F hW (ci := 13) (C := RX10) (T := TX10) (N := 5) (v := .ref na) (e0) rfl in_X10 0 (by decide) q716 (fun _ h9 => h9) rfl dX10_follow_22 ?_
  refine lv_iload_n F.x F.cd dX10_follow_25 rfl (lv_at hl 0 rfl) ?_
  refine n_iald (i := oth (pA v k) (pB v k) t) (n := v 0) (f := (fun x9 => nI (num1 x9))) (x := (nI (num1 (oth (pA v k) (pB v k) t)))) F hW (en) (hov) (by omega) (rfl) dX10_follow_26 ?_
  refine n_if_le (a := num1 (oth (pA v k) (pB v k) t)) (tgt := 54) F (by omega) dX10_follow_27 (by decide) (fun c_27 => ?_) (fun c_27 => ?_)
  · refine lv_aload_n F.x F.cd dX10_follow_54 rfl (lv_at hl 1 rfl) ?_
    refine lv_iload_n F.x F.cd dX10_follow_55 rfl (lv_at hl 0 rfl) ?_
    refine lv_iload_n F.x F.cd dX10_follow_56 rfl (lv_at hl 3 rfl) ?_
    refine s_callV (As := [.int (nI (oth (pA v k) (pB v k) t)), .int (nI k)]) (rest := []) (C := RX10) (T := TX10) (N := 5) (n := 2) F hW (k_X10_visit_4 g l σ L v h na la (oth (pA v k) (pB v k) t) nx1 br1 (nI k) num1 low1 hWk hI e0 en el bh bn bl hnl (hVI.pre hI hp hk he0 c_27) (by omega) (by omega)) (e0) rfl q749 q735 q736 q108 q737 rfl (by decide +kernel) rfl ⟨⟨Nat.le_of_ble_eq_true rfl, Nat.le_of_ble_eq_true rfl⟩, ⟨(Nat.le_of_ble_eq_true rfl), (Nat.le_of_ble_eq_true rfl)⟩⟩ (Nat.le_of_ble_eq_true rfl) hl.1 rfl dX10_follow_57 cX_no (fun r3 σ3 H locs hp3 hW => ?_)
    obtain ⟨rfl, num2, low2, nx2, br2, e2, en2, el2, hF2, hb2, hP2⟩ := hp3
    refine W.eq (g2 := F0 m_ 60 ls ([])) rfl ?_
    have hlo2 := hP2.2.2.2.2.2.2.1.1
    have hlt2 := (hP2.2.1 t (by rw [hVI.1]; exact hp.2.2.1))
    have hnt2 := hP2.2.2.2.1.2 t
    have hl22 := hlt2.2
    rw [← hl22] at hlt
    refine lv_aload_n F.x F.cd dX10_follow_60 rfl (lv_at hl 1 rfl) ?_
    refine s_get F hW (ci := 13) (C := RX10) (T := TX10) (N := 5) (v := .ref la) (e2) rfl in_X10 1 (by decide) q718 (fun _ h9 => h9) rfl dX10_follow_61 ?_
    refine lv_iload_n F.x F.cd dX10_follow_64 rfl (lv_at hl 2 rfl) ?_
    refine lv_aload_n F.x F.cd dX10_follow_65 rfl (lv_at hl 1 rfl) ?_
    refine s_get F hW (ci := 13) (C := RX10) (T := TX10) (N := 5) (v := .ref la) (e2) rfl in_X10 1 (by decide) q718 (fun _ h9 => h9) rfl dX10_follow_66 ?_
    refine lv_iload_n F.x F.cd dX10_follow_69 rfl (lv_at hl 2 rfl) ?_
    refine n_iald (i := t) (n := v 0) (f := (fun x9 => nI (low2 x9))) (x := (nI (low2 t))) F hW (el2) (by omega) (by omega) (rfl) dX10_follow_70 ?_
    refine lv_aload_n F.x F.cd dX10_follow_71 rfl (lv_at hl 1 rfl) ?_
    refine s_get F hW (ci := 13) (C := RX10) (T := TX10) (N := 5) (v := .ref la) (e2) rfl in_X10 1 (by decide) q718 (fun _ h9 => h9) rfl dX10_follow_72 ?_
    refine lv_iload_n F.x F.cd dX10_follow_75 rfl (lv_at hl 0 rfl) ?_
    refine n_iald (i := oth (pA v k) (pB v k) t) (n := v 0) (f := (fun x9 => nI (low2 x9))) (x := (nI (low2 (oth (pA v k) (pB v k) t)))) F hW (el2) (by omega) (by omega) (rfl) dX10_follow_76 ?_
    refine s_mmin (v := (nI (min (low2 t) (low2 (oth (pA v k) (pB v k) t))))) F q748 q453 q87 q454 hl.1 (Nat.le_of_ble_eq_true rfl) (Nat.le_of_ble_eq_true rfl) (Nat.le_of_ble_eq_true rfl) (Nat.le_of_ble_eq_true rfl) (nI_min (by omega) (by omega)) dX10_follow_77 ?_
    refine n_iastN (i := t) F hW (el2) (bl) (by omega) (by omega) dX10_follow_80 (fun H locs hW => ?_)
    obtain ⟨σ4, hσ4⟩ : ∃ z, z = sset σ3 la (eI g 0 (v 0) (fun x9 => nI ((va_up low2 t (min (low2 t) (low2 (oth (pA v k) (pB v k) t)))) x9))) := ⟨_, rfl⟩
    have hW : Hl g σ4 H locs := by rw [hσ4]; exact hW
    have w4 : σ4 la = some (eI g 0 (v 0) (fun x9 => nI ((va_up low2 t (min (low2 t) (low2 (oth (pA v k) (pB v k) t)))) x9))) := by rw [hσ4]; exact sset_eq
    have f5 : σ4 h = some (.inr (13, [.ref na, .ref la, .int (nI nx2), .int (nI br2), .ref (L 0)])) := by rw [hσ4, sset_ne (sto_ne el2 e2 (by simp))]; exact e2
    have f6 : σ4 na = some (eI g 0 (v 0) (fun x9 => nI (num2 x9))) := by rw [hσ4, sset_ne (hnl)]; exact en2
    have hvo : (va_up low2 t (min (low2 t) (low2 (oth (pA v k) (pB v k) t)))) (oth (pA v k) (pB v k) t) = low2 (oth (pA v k) (pB v k) t) := va_up_ne _ _ (edg.ne hI hk he0).symm
    refine lv_aload_n F.x F.cd dX10_follow_81 rfl (lv_at hl 1 rfl) ?_
    refine lv_dup F.x F.cd dX10_follow_82 rfl ?_
    refine s_get F hW (ci := 13) (C := RX10) (T := TX10) (N := 5) (v := .int (nI br2)) (f5) rfl in_X10 3 (by decide) q720 (fun _ h9 => h9) rfl dX10_follow_83 ?_
    refine lv_aload_n F.x F.cd dX10_follow_86 rfl (lv_at hl 1 rfl) ?_
    refine s_get F hW (ci := 13) (C := RX10) (T := TX10) (N := 5) (v := .ref la) (f5) rfl in_X10 1 (by decide) q718 (fun _ h9 => h9) rfl dX10_follow_87 ?_
    refine lv_iload_n F.x F.cd dX10_follow_90 rfl (lv_at hl 0 rfl) ?_
    refine n_iald (i := oth (pA v k) (pB v k) t) (n := v 0) (f := (fun x9 => nI ((va_up low2 t (min (low2 t) (low2 (oth (pA v k) (pB v k) t)))) x9))) (x := (nI ((va_up low2 t (min (low2 t) (low2 (oth (pA v k) (pB v k) t)))) (oth (pA v k) (pB v k) t)))) F hW (w4) (by omega) (by omega) (rfl) dX10_follow_91 ?_
    refine lv_aload_n F.x F.cd dX10_follow_92 rfl (lv_at hl 1 rfl) ?_
    refine s_get F hW (ci := 13) (C := RX10) (T := TX10) (N := 5) (v := .ref na) (f5) rfl in_X10 0 (by decide) q716 (fun _ h9 => h9) rfl dX10_follow_93 ?_
    refine lv_iload_n F.x F.cd dX10_follow_96 rfl (lv_at hl 2 rfl) ?_
    refine n_iald (i := t) (n := v 0) (f := (fun x9 => nI (num2 x9))) (x := (nI (num2 t))) F hW (f6) (by omega) (by omega) (rfl) dX10_follow_97 ?_
    refine n_icmp_le (a := (va_up low2 t (min (low2 t) (low2 (oth (pA v k) (pB v k) t)))) (oth (pA v k) (pB v k) t)) (b := num2 t) (tgt := 105) F (by omega) (by omega) dX10_follow_98 (by decide) (fun c_98 => ?_) (fun c_98 => ?_)
    · refine lv_iconst (v := (nI 0)) F.x F.cd dX10_follow_105 (by decide) ?_
      refine W.eq (g2 := F0 m_ 106 ls (.int (nI (if num2 t < low2 (oth (pA v k) (pB v k) t) then 1 else 0)) :: .int (nI br2) :: .ref h :: [])) (by rw [if_neg (by omega)]) ?_
      refine a_iadd (v := (nI (br2 + (if num2 t < low2 (oth (pA v k) (pB v k) t) then 1 else 0)))) F (nI_add _ _) dX10_follow_106 ?_
      refine s_put F hW (ci := 13) (C := RX10) (T := TX10) (N := 5) (v := .int (nI (br2 + (if num2 t < low2 (oth (pA v k) (pB v k) t) then 1 else 0)))) (ty := .int) (f5) (bh) rfl in_X10 tyX10_ok nmX10 3 (by decide) q720 (fun _ h9 => h9) rfl (by decide +kernel) rfl rfl (Nat.le_of_ble_eq_true rfl) dX10_follow_107 (fun H locs hW => ?_)
      obtain ⟨σ8, hσ8⟩ : ∃ z, z = sset σ4 h (.inr (13, [.ref na, .ref la, .int (nI nx2), .int (nI (br2 + (if num2 t < low2 (oth (pA v k) (pB v k) t) then 1 else 0))), .ref (L 0)])) := ⟨_, rfl⟩
      have hW : Hl g σ8 H locs := by rw [hσ8]; exact hW
      have w8 : σ8 h = some (.inr (13, [.ref na, .ref la, .int (nI nx2), .int (nI (br2 + (if num2 t < low2 (oth (pA v k) (pB v k) t) then 1 else 0))), .ref (L 0)])) := by rw [hσ8]; exact sset_eq
      have f9 : σ8 na = some (eI g 0 (v 0) (fun x9 => nI (num2 x9))) := by rw [hσ8, sset_ne (sto_ne f5 f6 (by simp))]; exact f6
      have f10 : σ8 la = some (eI g 0 (v 0) (fun x9 => nI ((va_up low2 t (min (low2 t) (low2 (oth (pA v k) (pB v k) t)))) x9))) := by rw [hσ8, sset_ne (sto_ne f5 w4 (by simp))]; exact w4
      subst hQ
      exact s_retv F hW (⟨rfl, _, _, _, _, w8, f9, f10, by rw [hσ8, hσ4]; exact (hF2.set (Or.inr (Or.inr rfl))).set (Or.inl rfl), hb2, fun y hy => by rw [(hP2.2.1 y hy).1]; exact hy, hVI.tree hI hp hk hc0 he0 c_27 hP2⟩) ⟨(Nat.le_of_ble_eq_true rfl), (Nat.le_of_ble_eq_true rfl)⟩ dX10_follow_110
    · refine lv_iconst (v := (nI 1)) F.x F.cd dX10_follow_101 (by decide) ?_
      refine lv_goto (tgt := 106) F.x F.cd dX10_follow_102 (by decide) ?_
      refine W.eq (g2 := F0 m_ 106 ls (.int (nI (if num2 t < low2 (oth (pA v k) (pB v k) t) then 1 else 0)) :: .int (nI br2) :: .ref h :: [])) (by rw [if_pos (by omega)]) ?_
      refine a_iadd (v := (nI (br2 + (if num2 t < low2 (oth (pA v k) (pB v k) t) then 1 else 0)))) F (nI_add _ _) dX10_follow_106 ?_
      refine s_put F hW (ci := 13) (C := RX10) (T := TX10) (N := 5) (v := .int (nI (br2 + (if num2 t < low2 (oth (pA v k) (pB v k) t) then 1 else 0)))) (ty := .int) (f5) (bh) rfl in_X10 tyX10_ok nmX10 3 (by decide) q720 (fun _ h9 => h9) rfl (by decide +kernel) rfl rfl (Nat.le_of_ble_eq_true rfl) dX10_follow_107 (fun H locs hW => ?_)
      obtain ⟨σ12, hσ12⟩ : ∃ z, z = sset σ4 h (.inr (13, [.ref na, .ref la, .int (nI nx2), .int (nI (br2 + (if num2 t < low2 (oth (pA v k) (pB v k) t) then 1 else 0))), .ref (L 0)])) := ⟨_, rfl⟩
      have hW : Hl g σ12 H locs := by rw [hσ12]; exact hW
      have w12 : σ12 h = some (.inr (13, [.ref na, .ref la, .int (nI nx2), .int (nI (br2 + (if num2 t < low2 (oth (pA v k) (pB v k) t) then 1 else 0))), .ref (L 0)])) := by rw [hσ12]; exact sset_eq
      have f13 : σ12 na = some (eI g 0 (v 0) (fun x9 => nI (num2 x9))) := by rw [hσ12, sset_ne (sto_ne f5 f6 (by simp))]; exact f6
      have f14 : σ12 la = some (eI g 0 (v 0) (fun x9 => nI ((va_up low2 t (min (low2 t) (low2 (oth (pA v k) (pB v k) t)))) x9))) := by rw [hσ12, sset_ne (sto_ne f5 w4 (by simp))]; exact w4
      subst hQ
      exact s_retv F hW (⟨rfl, _, _, _, _, w12, f13, f14, by rw [hσ12, hσ4]; exact (hF2.set (Or.inr (Or.inr rfl))).set (Or.inl rfl), hb2, fun y hy => by rw [(hP2.2.1 y hy).1]; exact hy, hVI.tree hI hp hk hc0 he0 c_27 hP2⟩) ⟨(Nat.le_of_ble_eq_true rfl), (Nat.le_of_ble_eq_true rfl)⟩ dX10_follow_110
  · refine lv_aload_n F.x F.cd dX10_follow_30 rfl (lv_at hl 1 rfl) ?_
    refine s_get F hW (ci := 13) (C := RX10) (T := TX10) (N := 5) (v := .ref la) (e0) rfl in_X10 1 (by decide) q718 (fun _ h9 => h9) rfl dX10_follow_31 ?_
    refine lv_iload_n F.x F.cd dX10_follow_34 rfl (lv_at hl 2 rfl) ?_
    refine lv_aload_n F.x F.cd dX10_follow_35 rfl (lv_at hl 1 rfl) ?_
    refine s_get F hW (ci := 13) (C := RX10) (T := TX10) (N := 5) (v := .ref la) (e0) rfl in_X10 1 (by decide) q718 (fun _ h9 => h9) rfl dX10_follow_36 ?_
    refine lv_iload_n F.x F.cd dX10_follow_39 rfl (lv_at hl 2 rfl) ?_
    refine n_iald (i := t) (n := v 0) (f := (fun x9 => nI (low1 x9))) (x := (nI (low1 t))) F hW (el) (by omega) (by omega) (rfl) dX10_follow_40 ?_
    refine lv_aload_n F.x F.cd dX10_follow_41 rfl (lv_at hl 1 rfl) ?_
    refine s_get F hW (ci := 13) (C := RX10) (T := TX10) (N := 5) (v := .ref na) (e0) rfl in_X10 0 (by decide) q716 (fun _ h9 => h9) rfl dX10_follow_42 ?_
    refine lv_iload_n F.x F.cd dX10_follow_45 rfl (lv_at hl 0 rfl) ?_
    refine n_iald (i := oth (pA v k) (pB v k) t) (n := v 0) (f := (fun x9 => nI (num1 x9))) (x := (nI (num1 (oth (pA v k) (pB v k) t)))) F hW (en) (hov) (by omega) (rfl) dX10_follow_46 ?_
    refine s_mmin (v := (nI (min (low1 t) (num1 (oth (pA v k) (pB v k) t))))) F q748 q453 q87 q454 hl.1 (Nat.le_of_ble_eq_true rfl) (Nat.le_of_ble_eq_true rfl) (Nat.le_of_ble_eq_true rfl) (Nat.le_of_ble_eq_true rfl) (nI_min (by omega) (by omega)) dX10_follow_47 ?_
    refine n_iastN (i := t) F hW (el) (bl) (by omega) (by omega) dX10_follow_50 (fun H locs hW => ?_)
    obtain ⟨σ15, hσ15⟩ : ∃ z, z = sset σ la (eI g 0 (v 0) (fun x9 => nI ((va_up low1 t (min (low1 t) (num1 (oth (pA v k) (pB v k) t)))) x9))) := ⟨_, rfl⟩
    have hW : Hl g σ15 H locs := by rw [hσ15]; exact hW
    have w15 : σ15 la = some (eI g 0 (v 0) (fun x9 => nI ((va_up low1 t (min (low1 t) (num1 (oth (pA v k) (pB v k) t)))) x9))) := by rw [hσ15]; exact sset_eq
    have f16 : σ15 (L 0) = some (.inr (1, [.ref (L 1), .ref (L 2), .int (nI (v 2)), .int (nI (v 3)), .int (nI (v 4)), .int (nI (v 5))])) := by rw [hσ15, sset_ne (sto_ne el hWk.1 (by simp))]; exact hWk.1
    have f17 : σ15 (L 1) = some (.inr (2, [.int mcT, .ref (L 3), .int (nI (v 0))])) := by rw [hσ15, sset_ne (sto_ne el eT (by simp))]; exact eT
    have j18 := IsList.setI (e := eI g 0 (v 0) (fun x9 => nI ((va_up low1 t (min (low1 t) (num1 (oth (pA v k) (pB v k) t)))) x9))) (hT) (el)
    rw [← hσ15] at j18
    have f19 : σ15 (L 2) = some (.inr (2, [.int mcP, .ref (L 4), .int (nI (v 1))])) := by rw [hσ15, sset_ne (sto_ne el eP (by simp))]; exact eP
    have j20 := IsList.setI (e := eI g 0 (v 0) (fun x9 => nI ((va_up low1 t (min (low1 t) (num1 (oth (pA v k) (pB v k) t)))) x9))) (hP) (el)
    rw [← hσ15] at j20
    have f21 : σ15 h = some (.inr (13, [.ref na, .ref la, .int (nI nx1), .int (nI br1), .ref (L 0)])) := by rw [hσ15, sset_ne (sto_ne el e0 (by simp))]; exact e0
    have f22 : σ15 (L (100 + k)) = some (.inr (9, [.int (nI (pA v k)), .int (nI (pB v k)), .int (nI (pM v k)), .int (nI (pV v k)), .int (nI (pR v k)), .int (nI (pD v k)), .int (nI (pL v k))])) := by rw [hσ15, sset_ne (sto_ne el ((hWk.2.2.2.2.2.1 k (by omega)).1) (by simp))]; exact (hWk.2.2.2.2.2.1 k (by omega)).1
    have f23 : σ15 na = some (eI g 0 (v 0) (fun x9 => nI (num1 x9))) := by rw [hσ15, sset_ne (hnl)]; exact en
    refine lv_goto (tgt := 110) F.x F.cd dX10_follow_51 (by decide) ?_
    subst hQ
    exact s_retv F hW (⟨rfl, _, _, _, _, f21, f23, w15, by rw [hσ15]; exact Fn.refl.set (Or.inr (Or.inr rfl)), hnx, fun y hy => hy, hVI.back hI hp hk hc0 he0 (by omega)⟩) ⟨(Nat.le_of_ble_eq_true rfl), (Nat.le_of_ble_eq_true rfl)⟩ dX10_follow_110
set_option maxHeartbeats 4000000 in
theorem k_X10_visit_5 (g : Gh) (l : Launch) (σ : Sto) (L v : Nat → Nat) (h na la t nx br : Nat) (c : Int32) (num low : Nat → Nat) (hWk : IsWorks g σ L v) (hI : Inv v) (e0 : σ h = some (.inr (13, [.ref na, .ref la, .int (nI nx), .int (nI br), .ref (L 0)]))) (en : σ na = some (eI g 0 (v 0) (fun x9 => nI (num x9)))) (el : σ la = some (eI g 0 (v 0) (fun x9 => nI (low x9)))) (bh : gB g ≤ h) (bn : gB g ≤ na) (bl : gB g ≤ la) (hnl : na ≠ la) (hp : VPre v num nx t c) (hun : unvN (fun y => decide (0 < num y)) 8 ≤ 5) (hnx : nx + unvN (fun y => decide (0 < num y)) 8 ≤ 9) : Ct g l yX10_visit cX10_visit 4 none ({ frames := 12, cells := 0, slots := 0, locals := 271 } : Room) [.ref h, .int (nI t), .int c] σ (fun r σ' => r = none ∧ ∃ (num' low' : Nat → Nat) (nx' br' : Nat), σ' h = some (.inr (13, [.ref na, .ref la, .int (nI nx'), .int (nI br'), .ref (L 0)])) ∧ σ' na = some (eI g 0 (v 0) (fun x9 => nI (num' x9))) ∧ σ' la = some (eI g 0 (v 0) (fun x9 => nI (low' x9))) ∧ Fn σ σ' h na la ∧ nx' + unvN (fun y => decide (0 < num' y)) 8 ≤ 9 ∧ VP v c num low nx br t num' low' nx' br') (nox) := by
  refine Ct.body (by decide) (Nat.le_of_ble_eq_true rfl) ?_
  intro p_ e_ s_ m_ args_ below_ meth_ c_ ls H locs Q F hW hl hQ
  have hl : lv_has ls 4 [(0, .ref h), (1, .int (nI t)), (2, .int c)] := hl
  have hT := hWk.2.2.1
  have hP := hWk.2.2.2.1
  obtain ⟨mcT, nT, fT, eT, bT, -⟩ := id hT
  obtain ⟨mcP, nP, fP, eP, bP, -⟩ := id hP
  have hv0 := hI.1
  have hv1 := hI.2.1
  have hlt9 := unvN_lt (R := fun y => decide (0 < num y)) (R' := fun y => decide (0 < va_up num t nx y)) (fun y hy => by unfold va_up; split; exact decide_eq_true hp.2.2.1; exact hy) (t := t) (decide_eq_false (by rw [hp.1]; decide)) (decide_eq_true (by rw [va_up_self]; exact hp.2.2.1)) 8 (Nat.lt_of_lt_of_le hp.2.1 hI.1)
  have hpv := hp.2.1
  refine lv_aload_n F.x F.cd dX10_visit_0 rfl (lv_at hl 0 rfl) ?_
  refine s_get F hW (ci := 13) (C := RX10) (T := TX10) (N := 5) (v := .ref na) (e0) rfl in_X10 0 (by decide) q716 (fun _ h9 => h9) rfl dX10_visit_1 ?_
  refine lv_iload_n F.x F.cd dX10_visit_4 rfl (lv_at hl 1 rfl) ?_
  refine lv_aload_n F.x F.cd dX10_visit_5 rfl (lv_at hl 0 rfl) ?_
  refine s_get F hW (ci := 13) (C := RX10) (T := TX10) (N := 5) (v := .int (nI nx)) (e0) rfl in_X10 2 (by decide) q719 (fun _ h9 => h9) rfl dX10_visit_6 ?_
  refine n_iastN (i := t) F hW (en) (bn) (hp.2.1) (by omega) dX10_visit_9 (fun H locs hW => ?_)
  obtain ⟨σ1, hσ1⟩ : ∃ z, z = sset σ na (eI g 0 (v 0) (fun x9 => nI ((va_up num t nx) x9))) := ⟨_, rfl⟩
  have hW : Hl g σ1 H locs := by rw [hσ1]; exact hW
  have w1 : σ1 na = some (eI g 0 (v 0) (fun x9 => nI ((va_up num t nx) x9))) := by rw [hσ1]; exact sset_eq
  have f2 : σ1 (L 0) = some (.inr (1, [.ref (L 1), .ref (L 2), .int (nI (v 2)), .int (nI (v 3)), .int (nI (v 4)), .int (nI (v 5))])) := by rw [hσ1, sset_ne (sto_ne en hWk.1 (by simp))]; exact hWk.1
  have f3 : σ1 (L 1) = some (.inr (2, [.int mcT, .ref (L 3), .int (nI (v 0))])) := by rw [hσ1, sset_ne (sto_ne en eT (by simp))]; exact eT
  have j4 := IsList.setI (e := eI g 0 (v 0) (fun x9 => nI ((va_up num t nx) x9))) (hT) (en)
  rw [← hσ1] at j4
  have f5 : σ1 (L 2) = some (.inr (2, [.int mcP, .ref (L 4), .int (nI (v 1))])) := by rw [hσ1, sset_ne (sto_ne en eP (by simp))]; exact eP
  have j6 := IsList.setI (e := eI g 0 (v 0) (fun x9 => nI ((va_up num t nx) x9))) (hP) (en)
  rw [← hσ1] at j6
  have f7 : σ1 h = some (.inr (13, [.ref na, .ref la, .int (nI nx), .int (nI br), .ref (L 0)])) := by rw [hσ1, sset_ne (sto_ne en e0 (by simp))]; exact e0
  have f8 : σ1 la = some (eI g 0 (v 0) (fun x9 => nI (low x9))) := by rw [hσ1, sset_ne (Ne.symm hnl)]; exact el
  refine lv_aload_n F.x F.cd dX10_visit_10 rfl (lv_at hl 0 rfl) ?_
  refine s_get F hW (ci := 13) (C := RX10) (T := TX10) (N := 5) (v := .ref la) (f7) rfl in_X10 1 (by decide) q718 (fun _ h9 => h9) rfl dX10_visit_11 ?_
  refine lv_iload_n F.x F.cd dX10_visit_14 rfl (lv_at hl 1 rfl) ?_
  refine lv_aload_n F.x F.cd dX10_visit_15 rfl (lv_at hl 0 rfl) ?_
  refine s_get F hW (ci := 13) (C := RX10) (T := TX10) (N := 5) (v := .int (nI nx)) (f7) rfl in_X10 2 (by decide) q719 (fun _ h9 => h9) rfl dX10_visit_16 ?_
  refine n_iastN (i := t) F hW (f8) (bl) (hp.2.1) (by omega) dX10_visit_19 (fun H locs hW => ?_)
  obtain ⟨σ9, hσ9⟩ : ∃ z, z = sset σ1 la (eI g 0 (v 0) (fun x9 => nI ((va_up low t nx) x9))) := ⟨_, rfl⟩
  have hW : Hl g σ9 H locs := by rw [hσ9]; exact hW
  have w9 : σ9 la = some (eI g 0 (v 0) (fun x9 => nI ((va_up low t nx) x9))) := by rw [hσ9]; exact sset_eq
  have f10 : σ9 (L 0) = some (.inr (1, [.ref (L 1), .ref (L 2), .int (nI (v 2)), .int (nI (v 3)), .int (nI (v 4)), .int (nI (v 5))])) := by rw [hσ9, sset_ne (sto_ne f8 f2 (by simp))]; exact f2
  have f11 : σ9 (L 1) = some (.inr (2, [.int mcT, .ref (L 3), .int (nI (v 0))])) := by rw [hσ9, sset_ne (sto_ne f8 f3 (by simp))]; exact f3
  have j12 := IsList.setI (e := eI g 0 (v 0) (fun x9 => nI ((va_up low t nx) x9))) (j4) (f8)
  rw [← hσ9] at j12
  have f13 : σ9 (L 2) = some (.inr (2, [.int mcP, .ref (L 4), .int (nI (v 1))])) := by rw [hσ9, sset_ne (sto_ne f8 f5 (by simp))]; exact f5
  have j14 := IsList.setI (e := eI g 0 (v 0) (fun x9 => nI ((va_up low t nx) x9))) (j6) (f8)
  rw [← hσ9] at j14
  have f15 : σ9 h = some (.inr (13, [.ref na, .ref la, .int (nI nx), .int (nI br), .ref (L 0)])) := by rw [hσ9, sset_ne (sto_ne f8 f7 (by simp))]; exact f7
  have f16 : σ9 na = some (eI g 0 (v 0) (fun x9 => nI ((va_up num t nx) x9))) := by rw [hσ9, sset_ne (hnl)]; exact w1
  refine lv_aload_n F.x F.cd dX10_visit_20 rfl (lv_at hl 0 rfl) ?_
  refine lv_dup F.x F.cd dX10_visit_21 rfl ?_
  refine s_get F hW (ci := 13) (C := RX10) (T := TX10) (N := 5) (v := .int (nI nx)) (f15) rfl in_X10 2 (by decide) q719 (fun _ h9 => h9) rfl dX10_visit_22 ?_
  refine lv_iconst (v := (nI 1)) F.x F.cd dX10_visit_25 (by decide) ?_
  refine a_iadd (v := (nI (nx + 1))) F (nI_add _ _) dX10_visit_26 ?_
  refine s_put F hW (ci := 13) (C := RX10) (T := TX10) (N := 5) (v := .int (nI (nx + 1))) (ty := .int) (f15) (bh) rfl in_X10 tyX10_ok nmX10 2 (by decide) q719 (fun _ h9 => h9) rfl (by decide +kernel) rfl rfl (Nat.le_of_ble_eq_true rfl) dX10_visit_27 (fun H locs hW => ?_)
  obtain ⟨σ18, hσ18⟩ : ∃ z, z = sset σ9 h (.inr (13, [.ref na, .ref la, .int (nI (nx + 1)), .int (nI br), .ref (L 0)])) := ⟨_, rfl⟩
  have hW : Hl g σ18 H locs := by rw [hσ18]; exact hW
  have w18 : σ18 h = some (.inr (13, [.ref na, .ref la, .int (nI (nx + 1)), .int (nI br), .ref (L 0)])) := by rw [hσ18]; exact sset_eq
  have f19 : σ18 (L 0) = some (.inr (1, [.ref (L 1), .ref (L 2), .int (nI (v 2)), .int (nI (v 3)), .int (nI (v 4)), .int (nI (v 5))])) := by rw [hσ18, sset_ne (sto_ne f15 f10 (by simp))]; exact f10
  have f20 : σ18 (L 1) = some (.inr (2, [.int mcT, .ref (L 3), .int (nI (v 0))])) := by rw [hσ18, sset_ne (sto_ne f15 f11 (by simp))]; exact f11
  have j21 := IsList.setO (e := .inr (13, [.ref na, .ref la, .int (nI (nx + 1)), .int (nI br), .ref (L 0)])) (j12) (f15) (by decide)
  rw [← hσ18] at j21
  have f22 : σ18 (L 2) = some (.inr (2, [.int mcP, .ref (L 4), .int (nI (v 1))])) := by rw [hσ18, sset_ne (sto_ne f15 f13 (by simp))]; exact f13
  have j23 := IsList.setO (e := .inr (13, [.ref na, .ref la, .int (nI (nx + 1)), .int (nI br), .ref (L 0)])) (j14) (f15) (by decide)
  rw [← hσ18] at j23
  have f24 : σ18 na = some (eI g 0 (v 0) (fun x9 => nI ((va_up num t nx) x9))) := by rw [hσ18, sset_ne (sto_ne f15 f16 (by simp))]; exact f16
  have f25 : σ18 la = some (eI g 0 (v 0) (fun x9 => nI ((va_up low t nx) x9))) := by rw [hσ18, sset_ne (sto_ne f15 w9 (by simp))]; exact w9
  refine lv_iconst (v := (nI 0)) F.x F.cd dX10_visit_30 (by decide) ?_
  refine lv_istore_n (lv' := [(3, .int (nI 0)), (0, .ref h), (1, .int (nI t)), (2, .int c)]) F.x F.cd dX10_visit_31 rfl hl (by decide) rfl (fun ls hl => ?_)
  have loop32 : ∀ (n : Nat) (k : Nat) (σk : Sto) (num1 low1 : Nat → Nat) (nx1 br1 : Nat), k + n = v 1 → σk h = some (.inr (13, [.ref na, .ref la, .int (nI nx1), .int (nI br1), .ref (L 0)])) → σk na = some (eI g 0 (v 0) (fun x9 => nI (num1 x9))) → σk la = some (eI g 0 (v 0) (fun x9 => nI (low1 x9))) → Fn σ σk h na la → nx1 + unvN (fun y => decide (0 < num1 y)) 8 ≤ 9 → unvN (fun y => decide (0 < num1 y)) 8 ≤ 4 → VI v c num low nx br t num1 low1 nx1 br1 k → ∀ (H : Heap) (locs : List Loc) (ls : Array Slot), Hl g σk H locs → lv_has ls 4 [(0, .ref h), (1, .int (nI t)), (2, .int c), (3, .int (nI k))] → W p_ l e_ ({ frames := 12, cells := 0, slots := 0, locals := 271 } : Room) s_ m_ args_ below_ meth_ c_ H locs 0 0 Q (F0 m_ 32 ls ([])) := by
    intro n
    induction n with
    | zero =>
      intro k σk num1 low1 nx1 br1 hkn e1 en1 el1 hFk hb1 hu1 hVI H locs ls hW hl
      have hWn := hWk.fn hFk e0 en el
      have hT_k := hWn.2.2.1
      have hP_k := hWn.2.2.2.1
      obtain ⟨mcT_k, nT_k, fT_k, eT_k, bT_k, -⟩ := id hT_k
      obtain ⟨mcP_k, nP_k, fP_k, eP_k, bP_k, -⟩ := id hP_k
      have hv0_k := hI.1
      have hv1_k := hI.2.1
      refine lv_iload_n F.x F.cd dX10_visit_32 rfl (lv_at hl 3 rfl) ?_
      refine lv_aload_n F.x F.cd dX10_visit_33 rfl (lv_at hl 0 rfl) ?_
      refine s_get F hW (ci := 13) (C := RX10) (T := TX10) (N := 5) (v := .ref (L 0)) (e1) rfl in_X10 4 (by decide) q722 (fun _ h9 => h9) rfl dX10_visit_34 ?_
      refine s_getN F hW (ci := 1) (C := RX2) (T := TX2) (N := 6) (v := .ref (L 2)) (hWn.1) rfl in_X2 1 (by decide) q164 (fun _ h9 => h9) rfl dX10_visit_37 ?_
      refine s_callF (As := []) (rest := [.int (nI k)]) (C := RJ2) (T := TJ2) (N := 3) (n := 0) F hW (k_J2_size g l σk _ _ _ _ hP_k) (eP_k) rfl (List.mem_of_getElem? (i := 0) rfl) q715 q272 q274 q72 q276 (by decide +kernel) rfl ⟨⟨Nat.le_of_ble_eq_true rfl, Nat.le_of_ble_eq_true rfl⟩, ⟨(Nat.le_of_ble_eq_true rfl), (Nat.le_of_ble_eq_true rfl)⟩⟩ (Nat.le_of_ble_eq_true rfl) hl.1 rfl dX10_visit_40 cX_no (fun r26 σ26 H locs hp26 hW => ?_)
      obtain ⟨rfl, hs26⟩ := hp26
      rw [hs26] at hW
      refine W.eq (g2 := F0 m_ 45 ls (.int (nI (v 1)) :: .int (nI k) :: [])) rfl ?_
      refine n_icmp_ge (a := k) (b := v 1) (tgt := 110) F (by omega) (by omega) dX10_visit_45 (by decide) (fun c_45 => ?_) (fun c_45 => ?_)
      · subst hQ
        exact s_retv F hW (⟨rfl, _, _, _, _, e1, en1, el1, hFk, hb1, VI.done hp (by rw [← show k = v 1 by omega]; exact hVI)⟩) ⟨(Nat.le_of_ble_eq_true rfl), (Nat.le_of_ble_eq_true rfl)⟩ dX10_visit_110
      · exact absurd c_45 (by omega)
    | succ n ih32 =>
      intro k σk num1 low1 nx1 br1 hkn e1 en1 el1 hFk hb1 hu1 hVI H locs ls hW hl
      have hWn := hWk.fn hFk e0 en el
      have hT_k := hWn.2.2.1
      have hP_k := hWn.2.2.2.1
      obtain ⟨mcT_k, nT_k, fT_k, eT_k, bT_k, -⟩ := id hT_k
      obtain ⟨mcP_k, nP_k, fP_k, eP_k, bP_k, -⟩ := id hP_k
      have hv0_k := hI.1
      have hv1_k := hI.2.1
      refine lv_iload_n F.x F.cd dX10_visit_32 rfl (lv_at hl 3 rfl) ?_
      refine lv_aload_n F.x F.cd dX10_visit_33 rfl (lv_at hl 0 rfl) ?_
      refine s_get F hW (ci := 13) (C := RX10) (T := TX10) (N := 5) (v := .ref (L 0)) (e1) rfl in_X10 4 (by decide) q722 (fun _ h9 => h9) rfl dX10_visit_34 ?_
      refine s_getN F hW (ci := 1) (C := RX2) (T := TX2) (N := 6) (v := .ref (L 2)) (hWn.1) rfl in_X2 1 (by decide) q164 (fun _ h9 => h9) rfl dX10_visit_37 ?_
      refine s_callF (As := []) (rest := [.int (nI k)]) (C := RJ2) (T := TJ2) (N := 3) (n := 0) F hW (k_J2_size g l σk _ _ _ _ hP_k) (eP_k) rfl (List.mem_of_getElem? (i := 0) rfl) q715 q272 q274 q72 q276 (by decide +kernel) rfl ⟨⟨Nat.le_of_ble_eq_true rfl, Nat.le_of_ble_eq_true rfl⟩, ⟨(Nat.le_of_ble_eq_true rfl), (Nat.le_of_ble_eq_true rfl)⟩⟩ (Nat.le_of_ble_eq_true rfl) hl.1 rfl dX10_visit_40 cX_no (fun r27 σ27 H locs hp27 hW => ?_)
      obtain ⟨rfl, hs27⟩ := hp27
      rw [hs27] at hW
      refine W.eq (g2 := F0 m_ 45 ls (.int (nI (v 1)) :: .int (nI k) :: [])) rfl ?_
      refine n_icmp_ge (a := k) (b := v 1) (tgt := 110) F (by omega) (by omega) dX10_visit_45 (by decide) (fun c_45 => ?_) (fun c_45 => ?_)
      · exact absurd c_45 (by omega)
      · have hpq := hI.pp (q := k) (by omega)
        refine lv_iload_n F.x F.cd dX10_visit_48 rfl (lv_at hl 3 rfl) ?_
        refine lv_iload_n F.x F.cd dX10_visit_49 rfl (lv_at hl 2 rfl) ?_
        refine lv_icmp_eq (x := (nI k)) (y := c) (tgt := 104) F.x F.cd dX10_visit_50 (by decide) (fun c_50 => ?_) (fun c_50 => ?_)
        · refine lv_iinc (k := 3) (v := (nI (k + 1))) (lv' := [(3, .int (nI (k + 1))), (0, .ref h), (1, .int (nI t)), (2, .int c)]) F.x F.cd dX10_visit_104 hl rfl (inc_nI k 1) (by decide) rfl (fun ls hl => ?_)
          refine lv_goto (tgt := 32) F.x F.cd dX10_visit_107 (by decide) ?_
          exact ih32 (k + 1) σk num1 low1 nx1 br1 (by omega) (e1) (en1) (el1) (hFk) (hb1) (hu1) (hVI.skip (Or.inl c_50)) H locs ls hW (lv_sub hl [1, 2, 3, 0] rfl)
        · refine lv_aload_n F.x F.cd dX10_visit_53 rfl (lv_at hl 0 rfl) ?_
          refine s_get F hW (ci := 13) (C := RX10) (T := TX10) (N := 5) (v := .ref (L 0)) (e1) rfl in_X10 4 (by decide) q722 (fun _ h9 => h9) rfl dX10_visit_54 ?_
          refine s_getN F hW (ci := 1) (C := RX2) (T := TX2) (N := 6) (v := .ref (L 2)) (hWn.1) rfl in_X2 1 (by decide) q164 (fun _ h9 => h9) rfl dX10_visit_57 ?_
          refine lv_iload_n F.x F.cd dX10_visit_60 rfl (lv_at hl 3 rfl) ?_
          refine s_callF (As := [.int (nI k)]) (rest := []) (C := RJ2) (T := TJ2) (N := 3) (n := 1) F hW (k_J2_get g l σk _ _ _ _ k hP_k (by omega)) (eP_k) rfl (List.mem_of_getElem? (i := 1) rfl) q739 q328 q330 q72 q332 (by decide +kernel) rfl ⟨⟨Nat.le_of_ble_eq_true rfl, Nat.le_of_ble_eq_true rfl⟩, ⟨(Nat.le_of_ble_eq_true rfl), (Nat.le_of_ble_eq_true rfl)⟩⟩ (Nat.le_of_ble_eq_true rfl) hl.1 rfl dX10_visit_61 cX_no (fun r28 σ28 H locs hp28 hW => ?_)
          obtain ⟨rfl, hs28⟩ := hp28
          rw [hs28] at hW
          refine W.eq (g2 := F0 m_ 66 ls (.ref (L (100 + k)) :: [])) rfl ?_
          refine s_cast_ F hW (C := RX5) (T := TX5) (N := 7) ((hWn.2.2.2.2.2.1 k (by omega)).1) rfl q740 dX10_visit_66 ?_
          refine s_callV (As := []) (rest := []) (C := RX5) (T := TX5) (N := 7) (n := 0) F hW (k_X5_isOpen g l σk (L (100 + k)) (pA v k) (pB v k) (pM v k) (pV v k) (pR v k) (pD v k) (pL v k) ((hWn.2.2.2.2.2.1 k (by omega)).1) (by omega) (by omega)) ((hWn.2.2.2.2.2.1 k (by omega)).1) rfl q741 q672 q673 q96 q674 rfl (by decide +kernel) rfl ⟨⟨Nat.le_of_ble_eq_true rfl, Nat.le_of_ble_eq_true rfl⟩, ⟨(Nat.le_of_ble_eq_true rfl), (Nat.le_of_ble_eq_true rfl)⟩⟩ (Nat.le_of_ble_eq_true rfl) hl.1 rfl dX10_visit_69 cX_no (fun r29 σ29 H locs hp29 hW => ?_)
          obtain ⟨rfl, hs29⟩ := hp29
          rw [hs29] at hW
          refine W.eq (g2 := F0 m_ 72 ls (.int (bI (opn (pV v k) (pD v k))) :: [])) rfl ?_
          refine b_if_eq (b := (opn (pV v k) (pD v k))) (tgt := 104) F dX10_visit_72 (by decide) (fun c_72 => ?_) (fun c_72 => ?_)
          · refine lv_iinc (k := 3) (v := (nI (k + 1))) (lv' := [(3, .int (nI (k + 1))), (0, .ref h), (1, .int (nI t)), (2, .int c)]) F.x F.cd dX10_visit_104 hl rfl (inc_nI k 1) (by decide) rfl (fun ls hl => ?_)
            refine lv_goto (tgt := 32) F.x F.cd dX10_visit_107 (by decide) ?_
            exact ih32 (k + 1) σk num1 low1 nx1 br1 (by omega) (e1) (en1) (el1) (hFk) (hb1) (hu1) (hVI.skip (Or.inr (fun z hz => by rw [hz.1] at c_72; cases c_72))) H locs ls hW (lv_sub hl [1, 2, 3, 0] rfl)
          · refine lv_aload_n F.x F.cd dX10_visit_75 rfl (lv_at hl 0 rfl) ?_
            refine s_get F hW (ci := 13) (C := RX10) (T := TX10) (N := 5) (v := .ref (L 0)) (e1) rfl in_X10 4 (by decide) q722 (fun _ h9 => h9) rfl dX10_visit_76 ?_
            refine s_getN F hW (ci := 1) (C := RX2) (T := TX2) (N := 6) (v := .ref (L 2)) (hWn.1) rfl in_X2 1 (by decide) q164 (fun _ h9 => h9) rfl dX10_visit_79 ?_
            refine lv_iload_n F.x F.cd dX10_visit_82 rfl (lv_at hl 3 rfl) ?_
            refine s_callF (As := [.int (nI k)]) (rest := []) (C := RJ2) (T := TJ2) (N := 3) (n := 1) F hW (k_J2_get g l σk _ _ _ _ k hP_k (by omega)) (eP_k) rfl (List.mem_of_getElem? (i := 1) rfl) q739 q328 q330 q72 q332 (by decide +kernel) rfl ⟨⟨Nat.le_of_ble_eq_true rfl, Nat.le_of_ble_eq_true rfl⟩, ⟨(Nat.le_of_ble_eq_true rfl), (Nat.le_of_ble_eq_true rfl)⟩⟩ (Nat.le_of_ble_eq_true rfl) hl.1 rfl dX10_visit_83 cX_no (fun r30 σ30 H locs hp30 hW => ?_)
            obtain ⟨rfl, hs30⟩ := hp30
            rw [hs30] at hW
            refine W.eq (g2 := F0 m_ 88 ls (.ref (L (100 + k)) :: [])) rfl ?_
            refine s_cast_ F hW (C := RX5) (T := TX5) (N := 7) ((hWn.2.2.2.2.2.1 k (by omega)).1) rfl q740 dX10_visit_88 ?_
            refine lv_iload_n F.x F.cd dX10_visit_91 rfl (lv_at hl 1 rfl) ?_
            refine s_callV (As := [.int (nI t)]) (rest := []) (C := RX5) (T := TX5) (N := 7) (n := 1) F hW (k_X5_touches g l σk (L (100 + k)) (pA v k) (pB v k) (pM v k) (pV v k) (pR v k) (pD v k) (pL v k) t ((hWn.2.2.2.2.2.1 k (by omega)).1) (by omega) (by omega) (by omega)) ((hWn.2.2.2.2.2.1 k (by omega)).1) rfl q742 q676 q677 q96 q678 rfl (by decide +kernel) rfl ⟨⟨Nat.le_of_ble_eq_true rfl, Nat.le_of_ble_eq_true rfl⟩, ⟨(Nat.le_of_ble_eq_true rfl), (Nat.le_of_ble_eq_true rfl)⟩⟩ (Nat.le_of_ble_eq_true rfl) hl.1 rfl dX10_visit_92 cX_no (fun r31 σ31 H locs hp31 hW => ?_)
            obtain ⟨rfl, hs31⟩ := hp31
            rw [hs31] at hW
            refine W.eq (g2 := F0 m_ 95 ls (.int (bI (tch (pA v k) (pB v k) t)) :: [])) rfl ?_
            refine b_if_eq (b := (tch (pA v k) (pB v k) t)) (tgt := 104) F dX10_visit_95 (by decide) (fun c_95 => ?_) (fun c_95 => ?_)
            · refine lv_iinc (k := 3) (v := (nI (k + 1))) (lv' := [(3, .int (nI (k + 1))), (0, .ref h), (1, .int (nI t)), (2, .int c)]) F.x F.cd dX10_visit_104 hl rfl (inc_nI k 1) (by decide) rfl (fun ls hl => ?_)
              refine lv_goto (tgt := 32) F.x F.cd dX10_visit_107 (by decide) ?_
              exact ih32 (k + 1) σk num1 low1 nx1 br1 (by omega) (e1) (en1) (el1) (hFk) (hb1) (hu1) (hVI.skip (Or.inr (fun z hz => by have h9 := hz.2; rw [show tch (pA v k) (pB v k) t = true from decide_eq_true (h9.elim (fun h => Or.inl h.1) (fun h => Or.inr h.1))] at c_95; cases c_95))) H locs ls hW (lv_sub hl [1, 2, 3, 0] rfl)
            · refine lv_aload_n F.x F.cd dX10_visit_98 rfl (lv_at hl 0 rfl) ?_
              refine lv_iload_n F.x F.cd dX10_visit_99 rfl (lv_at hl 1 rfl) ?_
              refine lv_iload_n F.x F.cd dX10_visit_100 rfl (lv_at hl 3 rfl) ?_
              refine s_callV (As := [.int (nI t), .int (nI k)]) (rest := []) (C := RX10) (T := TX10) (N := 5) (n := 2) F hW (k_X10_follow_5 g l σk L v h na la t nx br c num low num1 low1 nx1 br1 k hWn hI e1 en1 el1 bh bn bl hnl hp hVI (by omega) c_50 ⟨c_72, tch_oth c_95 (hI.pp (show k < v 1 by omega)).2.2.1⟩ hu1 hb1) (e1) rfl q743 q745 qs4 q108 q746 rfl (by decide +kernel) rfl ⟨⟨Nat.le_of_ble_eq_true rfl, Nat.le_of_ble_eq_true rfl⟩, ⟨(Nat.le_of_ble_eq_true rfl), (Nat.le_of_ble_eq_true rfl)⟩⟩ (Nat.le_of_ble_eq_true rfl) hl.1 rfl dX10_visit_101 cX_no (fun r32 σ32 H locs hp32 hW => ?_)
              obtain ⟨rfl, num2, low2, nx2, br2, e2, en2, el2, hF2, hb2, hm2, hVI2⟩ := hp32
              refine W.eq (g2 := F0 m_ 104 ls ([])) rfl ?_
              refine lv_iinc (k := 3) (v := (nI (k + 1))) (lv' := [(3, .int (nI (k + 1))), (0, .ref h), (1, .int (nI t)), (2, .int c)]) F.x F.cd dX10_visit_104 hl rfl (inc_nI k 1) (by decide) rfl (fun ls hl => ?_)
              refine lv_goto (tgt := 32) F.x F.cd dX10_visit_107 (by decide) ?_
              exact ih32 (k + 1) σ32 num2 low2 nx2 br2 (by omega) (e2) (en2) (el2) (hFk.trans hF2) (hb2) (Nat.le_trans (unvN_le (fun y hy => decide_eq_true (hm2 y (of_decide_eq_true hy))) 8) hu1) (hVI2) H locs ls hW (lv_sub hl [1, 2, 3, 0] rfl)
  exact loop32 (v 1) 0 _ _ _ _ _ (by omega) (w18) (f24) (f25) (by rw [hσ18, hσ9, hσ1]; exact ((Fn.refl.set (Or.inr (Or.inl rfl))).set (Or.inr (Or.inr rfl))).set (Or.inl rfl)) (by have h9 := hlt9; omega) (by have h9 := hlt9; omega) (VI.start hI hp) H locs ls hW (lv_sub hl [1, 2, 3, 0] rfl)
set_option maxHeartbeats 4000000 in
theorem k_X10_follow_6 (g : Gh) (l : Launch) (σ : Sto) (L v : Nat → Nat) (h na la t nx br : Nat) (c : Int32) (num low : Nat → Nat) (num1 low1 : Nat → Nat) (nx1 br1 k : Nat) (hWk : IsWorks g σ L v) (hI : Inv v) (e0 : σ h = some (.inr (13, [.ref na, .ref la, .int (nI nx1), .int (nI br1), .ref (L 0)]))) (en : σ na = some (eI g 0 (v 0) (fun x9 => nI (num1 x9)))) (el : σ la = some (eI g 0 (v 0) (fun x9 => nI (low1 x9)))) (bh : gB g ≤ h) (bn : gB g ≤ na) (bl : gB g ≤ la) (hnl : na ≠ la) (hp : VPre v num nx t c) (hVI : VI v c num low nx br t num1 low1 nx1 br1 k) (hk : k < v 1) (hc0 : nI k ≠ c) (he0 : edg v k t (oth (pA v k) (pB v k) t)) (hun : unvN (fun y => decide (0 < num1 y)) 8 ≤ 5) (hnx : nx1 + unvN (fun y => decide (0 < num1 y)) 8 ≤ 9) : Ct g l yX10_follow cX10_follow 4 none ({ frames := 13, cells := 0, slots := 0, locals := 294 } : Room) [.ref h, .int (nI t), .int (nI k)] σ (fun r σ' => r = none ∧ ∃ (num' low' : Nat → Nat) (nx' br' : Nat), σ' h = some (.inr (13, [.ref na, .ref la, .int (nI nx'), .int (nI br'), .ref (L 0)])) ∧ σ' na = some (eI g 0 (v 0) (fun x9 => nI (num' x9))) ∧ σ' la = some (eI g 0 (v 0) (fun x9 => nI (low' x9))) ∧ Fn σ σ' h na la ∧ nx' + unvN (fun y => decide (0 < num' y)) 8 ≤ 9 ∧ (∀ y, 0 < num1 y → 0 < num' y) ∧ VI v c num low nx br t num' low' nx' br' (k + 1)) (nox) := by
  refine Ct.body (by decide) (Nat.le_of_ble_eq_true rfl) ?_
  intro p_ e_ s_ m_ args_ below_ meth_ c_ ls H locs Q F hW hl hQ
  have hl : lv_has ls 4 [(0, .ref h), (1, .int (nI t)), (2, .int (nI k))] := hl
  have hT := hWk.2.2.1
  have hP := hWk.2.2.2.1
  obtain ⟨mcT, nT, fT, eT, bT, -⟩ := id hT
  obtain ⟨mcP, nP, fP, eP, bP, -⟩ := id hP
  have hv0 := hI.1
  have hv1 := hI.2.1
  have hpq := hI.pp hk
  have htv := hp.2.1
  have hov := oth_lt (t := t) hpq.1 hpq.2.1
  have hnb := fun y => hVI.2.2.2.1.2 y
  have hno := hnb (oth (pA v k) (pB v k) t)
  have hlt := hVI.2.2.2.2.2.2.2.1.1
  have hnn := hVI.2.2.2.1.1
  refine lv_aload_n F.x F.cd dX10_follow_0 rfl (lv_at hl 0 rfl) ?_
  refine s_get F hW (ci := 13) (C := RX10) (T := TX10) (N := 5) (v := .ref (L 0)) (e0) rfl in_X10 4 (by decide) q722 (fun _ h9 => h9) rfl dX10_follow_1 ?_
  refine s_getN F hW (ci := 1) (C := RX2) (T := TX2) (N := 6) (v := .ref (L 2)) (hWk.1) rfl in_X2 1 (by decide) q164 (fun _ h9 => h9) rfl dX10_follow_4 ?_
  refine lv_iload_n F.x F.cd dX10_follow_7 rfl (lv_at hl 2 rfl) ?_
  refine s_callF (As := [.int (nI k)]) (rest := []) (C := RJ2) (T := TJ2) (N := 3) (n := 1) F hW (k_J2_get g l σ _ _ _ _ k hP (by omega)) (eP) rfl (List.mem_of_getElem? (i := 1) rfl) q739 q328 q330 q72 q332 (by decide +kernel) rfl ⟨⟨Nat.le_of_ble_eq_true rfl, Nat.le_of_ble_eq_true rfl⟩, ⟨(Nat.le_of_ble_eq_true rfl), (Nat.le_of_ble_eq_true rfl)⟩⟩ (Nat.le_of_ble_eq_true rfl) hl.1 rfl dX10_follow_8 cX_no (fun r1 σ1 H locs hp1 hW => ?_)
  obtain ⟨rfl, hs1⟩ := hp1
  rw [hs1] at hW
  refine W.eq (g2 := F0 m_ 13 ls (.ref (L (100 + k)) :: [])) rfl ?_
  refine s_cast_ F hW (C := RX5) (T := TX5) (N := 7) ((hWk.2.2.2.2.2.1 k (by omega)).1) rfl q740 dX10_follow_13 ?_
  refine lv_iload_n F.x F.cd dX10_follow_16 rfl (lv_at hl 1 rfl) ?_
  refine s_callV (As := [.int (nI t)]) (rest := []) (C := RX5) (T := TX5) (N := 7) (n := 1) F hW (k_X5_otherEnd g l σ (L (100 + k)) (pA v k) (pB v k) (pM v k) (pV v k) (pR v k) (pD v k) (pL v k) t ((hWk.2.2.2.2.2.1 k (by omega)).1) (by omega) (by omega)) ((hWk.2.2.2.2.2.1 k (by omega)).1) rfl q747 q680 q681 q96 q682 rfl (by decide +kernel) rfl ⟨⟨Nat.le_of_ble_eq_true rfl, Nat.le_of_ble_eq_true rfl⟩, ⟨(Nat.le_of_ble_eq_true rfl), (Nat.le_of_ble_eq_true rfl)⟩⟩ (Nat.le_of_ble_eq_true rfl) hl.1 rfl dX10_follow_17 cX_no (fun r2 σ2 H locs hp2 hW => ?_)
  obtain ⟨rfl, hs2⟩ := hp2
  rw [hs2] at hW
  refine W.eq (g2 := F0 m_ 20 ls (.int (nI (oth (pA v k) (pB v k) t)) :: [])) rfl ?_
  refine lv_istore_n (lv' := [(3, .int (nI (oth (pA v k) (pB v k) t))), (0, .ref h), (1, .int (nI t)), (2, .int (nI k))]) F.x F.cd dX10_follow_20 rfl hl (by decide) rfl (fun ls hl => ?_)
  refine lv_aload_n F.x F.cd dX10_follow_21 rfl (lv_at hl 1 rfl) ?_
  refine s_get F hW (ci := 13) (C := RX10) (T := TX10) (N := 5) (v := .ref na) (e0) rfl in_X10 0 (by decide) q716 (fun _ h9 => h9) rfl dX10_follow_22 ?_
  refine lv_iload_n F.x F.cd dX10_follow_25 rfl (lv_at hl 0 rfl) ?_
  refine n_iald (i := oth (pA v k) (pB v k) t) (n := v 0) (f := (fun x9 => nI (num1 x9))) (x := (nI (num1 (oth (pA v k) (pB v k) t)))) F hW (en) (hov) (by omega) (rfl) dX10_follow_26 ?_
  refine n_if_le (a := num1 (oth (pA v k) (pB v k) t)) (tgt := 54) F (by omega) dX10_follow_27 (by decide) (fun c_27 => ?_) (fun c_27 => ?_)
  · refine lv_aload_n F.x F.cd dX10_follow_54 rfl (lv_at hl 1 rfl) ?_
    refine lv_iload_n F.x F.cd dX10_follow_55 rfl (lv_at hl 0 rfl) ?_
    refine lv_iload_n F.x F.cd dX10_follow_56 rfl (lv_at hl 3 rfl) ?_
    refine s_callV (As := [.int (nI (oth (pA v k) (pB v k) t)), .int (nI k)]) (rest := []) (C := RX10) (T := TX10) (N := 5) (n := 2) F hW (k_X10_visit_5 g l σ L v h na la (oth (pA v k) (pB v k) t) nx1 br1 (nI k) num1 low1 hWk hI e0 en el bh bn bl hnl (hVI.pre hI hp hk he0 c_27) (by omega) (by omega)) (e0) rfl q749 q735 q736 q108 q737 rfl (by decide +kernel) rfl ⟨⟨Nat.le_of_ble_eq_true rfl, Nat.le_of_ble_eq_true rfl⟩, ⟨(Nat.le_of_ble_eq_true rfl), (Nat.le_of_ble_eq_true rfl)⟩⟩ (Nat.le_of_ble_eq_true rfl) hl.1 rfl dX10_follow_57 cX_no (fun r3 σ3 H locs hp3 hW => ?_)
    obtain ⟨rfl, num2, low2, nx2, br2, e2, en2, el2, hF2, hb2, hP2⟩ := hp3
    refine W.eq (g2 := F0 m_ 60 ls ([])) rfl ?_
    have hlo2 := hP2.2.2.2.2.2.2.1.1
    have hlt2 := (hP2.2.1 t (by rw [hVI.1]; exact hp.2.2.1))
    have hnt2 := hP2.2.2.2.1.2 t
    have hl22 := hlt2.2
    rw [← hl22] at hlt
    refine lv_aload_n F.x F.cd dX10_follow_60 rfl (lv_at hl 1 rfl) ?_
    refine s_get F hW (ci := 13) (C := RX10) (T := TX10) (N := 5) (v := .ref la) (e2) rfl in_X10 1 (by decide) q718 (fun _ h9 => h9) rfl dX10_follow_61 ?_
    refine lv_iload_n F.x F.cd dX10_follow_64 rfl (lv_at hl 2 rfl) ?_
    refine lv_aload_n F.x F.cd dX10_follow_65 rfl (lv_at hl 1 rfl) ?_
    refine s_get F hW (ci := 13) (C := RX10) (T := TX10) (N := 5) (v := .ref la) (e2) rfl in_X10 1 (by decide) q718 (fun _ h9 => h9) rfl dX10_follow_66 ?_
    refine lv_iload_n F.x F.cd dX10_follow_69 rfl (lv_at hl 2 rfl) ?_
    refine n_iald (i := t) (n := v 0) (f := (fun x9 => nI (low2 x9))) (x := (nI (low2 t))) F hW (el2) (by omega) (by omega) (rfl) dX10_follow_70 ?_
    refine lv_aload_n F.x F.cd dX10_follow_71 rfl (lv_at hl 1 rfl) ?_
    refine s_get F hW (ci := 13) (C := RX10) (T := TX10) (N := 5) (v := .ref la) (e2) rfl in_X10 1 (by decide) q718 (fun _ h9 => h9) rfl dX10_follow_72 ?_
    refine lv_iload_n F.x F.cd dX10_follow_75 rfl (lv_at hl 0 rfl) ?_
    refine n_iald (i := oth (pA v k) (pB v k) t) (n := v 0) (f := (fun x9 => nI (low2 x9))) (x := (nI (low2 (oth (pA v k) (pB v k) t)))) F hW (el2) (by omega) (by omega) (rfl) dX10_follow_76 ?_
    refine s_mmin (v := (nI (min (low2 t) (low2 (oth (pA v k) (pB v k) t))))) F q748 q453 q87 q454 hl.1 (Nat.le_of_ble_eq_true rfl) (Nat.le_of_ble_eq_true rfl) (Nat.le_of_ble_eq_true rfl) (Nat.le_of_ble_eq_true rfl) (nI_min (by omega) (by omega)) dX10_follow_77 ?_
    refine n_iastN (i := t) F hW (el2) (bl) (by omega) (by omega) dX10_follow_80 (fun H locs hW => ?_)
    obtain ⟨σ4, hσ4⟩ : ∃ z, z = sset σ3 la (eI g 0 (v 0) (fun x9 => nI ((va_up low2 t (min (low2 t) (low2 (oth (pA v k) (pB v k) t)))) x9))) := ⟨_, rfl⟩
    have hW : Hl g σ4 H locs := by rw [hσ4]; exact hW
    have w4 : σ4 la = some (eI g 0 (v 0) (fun x9 => nI ((va_up low2 t (min (low2 t) (low2 (oth (pA v k) (pB v k) t)))) x9))) := by rw [hσ4]; exact sset_eq
    have f5 : σ4 h = some (.inr (13, [.ref na, .ref la, .int (nI nx2), .int (nI br2), .ref (L 0)])) := by rw [hσ4, sset_ne (sto_ne el2 e2 (by simp))]; exact e2
    have f6 : σ4 na = some (eI g 0 (v 0) (fun x9 => nI (num2 x9))) := by rw [hσ4, sset_ne (hnl)]; exact en2
    have hvo : (va_up low2 t (min (low2 t) (low2 (oth (pA v k) (pB v k) t)))) (oth (pA v k) (pB v k) t) = low2 (oth (pA v k) (pB v k) t) := va_up_ne _ _ (edg.ne hI hk he0).symm
    refine lv_aload_n F.x F.cd dX10_follow_81 rfl (lv_at hl 1 rfl) ?_
    refine lv_dup F.x F.cd dX10_follow_82 rfl ?_
    refine s_get F hW (ci := 13) (C := RX10) (T := TX10) (N := 5) (v := .int (nI br2)) (f5) rfl in_X10 3 (by decide) q720 (fun _ h9 => h9) rfl dX10_follow_83 ?_
    refine lv_aload_n F.x F.cd dX10_follow_86 rfl (lv_at hl 1 rfl) ?_
    refine s_get F hW (ci := 13) (C := RX10) (T := TX10) (N := 5) (v := .ref la) (f5) rfl in_X10 1 (by decide) q718 (fun _ h9 => h9) rfl dX10_follow_87 ?_
    refine lv_iload_n F.x F.cd dX10_follow_90 rfl (lv_at hl 0 rfl) ?_
    refine n_iald (i := oth (pA v k) (pB v k) t) (n := v 0) (f := (fun x9 => nI ((va_up low2 t (min (low2 t) (low2 (oth (pA v k) (pB v k) t)))) x9))) (x := (nI ((va_up low2 t (min (low2 t) (low2 (oth (pA v k) (pB v k) t)))) (oth (pA v k) (pB v k) t)))) F hW (w4) (by omega) (by omega) (rfl) dX10_follow_91 ?_
    refine lv_aload_n F.x F.cd dX10_follow_92 rfl (lv_at hl 1 rfl) ?_
    refine s_get F hW (ci := 13) (C := RX10) (T := TX10) (N := 5) (v := .ref na) (f5) rfl in_X10 0 (by decide) q716 (fun _ h9 => h9) rfl dX10_follow_93 ?_
    refine lv_iload_n F.x F.cd dX10_follow_96 rfl (lv_at hl 2 rfl) ?_
    refine n_iald (i := t) (n := v 0) (f := (fun x9 => nI (num2 x9))) (x := (nI (num2 t))) F hW (f6) (by omega) (by omega) (rfl) dX10_follow_97 ?_
    refine n_icmp_le (a := (va_up low2 t (min (low2 t) (low2 (oth (pA v k) (pB v k) t)))) (oth (pA v k) (pB v k) t)) (b := num2 t) (tgt := 105) F (by omega) (by omega) dX10_follow_98 (by decide) (fun c_98 => ?_) (fun c_98 => ?_)
    · refine lv_iconst (v := (nI 0)) F.x F.cd dX10_follow_105 (by decide) ?_
      refine W.eq (g2 := F0 m_ 106 ls (.int (nI (if num2 t < low2 (oth (pA v k) (pB v k) t) then 1 else 0)) :: .int (nI br2) :: .ref h :: [])) (by rw [if_neg (by omega)]) ?_
      refine a_iadd (v := (nI (br2 + (if num2 t < low2 (oth (pA v k) (pB v k) t) then 1 else 0)))) F (nI_add _ _) dX10_follow_106 ?_
      refine s_put F hW (ci := 13) (C := RX10) (T := TX10) (N := 5) (v := .int (nI (br2 + (if num2 t < low2 (oth (pA v k) (pB v k) t) then 1 else 0)))) (ty := .int) (f5) (bh) rfl in_X10 tyX10_ok nmX10 3 (by decide) q720 (fun _ h9 => h9) rfl (by decide +kernel) rfl rfl (Nat.le_of_ble_eq_true rfl) dX10_follow_107 (fun H locs hW => ?_)
      obtain ⟨σ8, hσ8⟩ : ∃ z, z = sset σ4 h (.inr (13, [.ref na, .ref la, .int (nI nx2), .int (nI (br2 + (if num2 t < low2 (oth (pA v k) (pB v k) t) then 1 else 0))), .ref (L 0)])) := ⟨_, rfl⟩
      have hW : Hl g σ8 H locs := by rw [hσ8]; exact hW
      have w8 : σ8 h = some (.inr (13, [.ref na, .ref la, .int (nI nx2), .int (nI (br2 + (if num2 t < low2 (oth (pA v k) (pB v k) t) then 1 else 0))), .ref (L 0)])) := by rw [hσ8]; exact sset_eq
      have f9 : σ8 na = some (eI g 0 (v 0) (fun x9 => nI (num2 x9))) := by rw [hσ8, sset_ne (sto_ne f5 f6 (by simp))]; exact f6
      have f10 : σ8 la = some (eI g 0 (v 0) (fun x9 => nI ((va_up low2 t (min (low2 t) (low2 (oth (pA v k) (pB v k) t)))) x9))) := by rw [hσ8, sset_ne (sto_ne f5 w4 (by simp))]; exact w4
      subst hQ
      exact s_retv F hW (⟨rfl, _, _, _, _, w8, f9, f10, by rw [hσ8, hσ4]; exact (hF2.set (Or.inr (Or.inr rfl))).set (Or.inl rfl), hb2, fun y hy => by rw [(hP2.2.1 y hy).1]; exact hy, hVI.tree hI hp hk hc0 he0 c_27 hP2⟩) ⟨(Nat.le_of_ble_eq_true rfl), (Nat.le_of_ble_eq_true rfl)⟩ dX10_follow_110
    · refine lv_iconst (v := (nI 1)) F.x F.cd dX10_follow_101 (by decide) ?_
      refine lv_goto (tgt := 106) F.x F.cd dX10_follow_102 (by decide) ?_
      refine W.eq (g2 := F0 m_ 106 ls (.int (nI (if num2 t < low2 (oth (pA v k) (pB v k) t) then 1 else 0)) :: .int (nI br2) :: .ref h :: [])) (by rw [if_pos (by omega)]) ?_
      refine a_iadd (v := (nI (br2 + (if num2 t < low2 (oth (pA v k) (pB v k) t) then 1 else 0)))) F (nI_add _ _) dX10_follow_106 ?_
      refine s_put F hW (ci := 13) (C := RX10) (T := TX10) (N := 5) (v := .int (nI (br2 + (if num2 t < low2 (oth (pA v k) (pB v k) t) then 1 else 0)))) (ty := .int) (f5) (bh) rfl in_X10 tyX10_ok nmX10 3 (by decide) q720 (fun _ h9 => h9) rfl (by decide +kernel) rfl rfl (Nat.le_of_ble_eq_true rfl) dX10_follow_107 (fun H locs hW => ?_)
      obtain ⟨σ12, hσ12⟩ : ∃ z, z = sset σ4 h (.inr (13, [.ref na, .ref la, .int (nI nx2), .int (nI (br2 + (if num2 t < low2 (oth (pA v k) (pB v k) t) then 1 else 0))), .ref (L 0)])) := ⟨_, rfl⟩
      have hW : Hl g σ12 H locs := by rw [hσ12]; exact hW
      have w12 : σ12 h = some (.inr (13, [.ref na, .ref la, .int (nI nx2), .int (nI (br2 + (if num2 t < low2 (oth (pA v k) (pB v k) t) then 1 else 0))), .ref (L 0)])) := by rw [hσ12]; exact sset_eq
      have f13 : σ12 na = some (eI g 0 (v 0) (fun x9 => nI (num2 x9))) := by rw [hσ12, sset_ne (sto_ne f5 f6 (by simp))]; exact f6
      have f14 : σ12 la = some (eI g 0 (v 0) (fun x9 => nI ((va_up low2 t (min (low2 t) (low2 (oth (pA v k) (pB v k) t)))) x9))) := by rw [hσ12, sset_ne (sto_ne f5 w4 (by simp))]; exact w4
      subst hQ
      exact s_retv F hW (⟨rfl, _, _, _, _, w12, f13, f14, by rw [hσ12, hσ4]; exact (hF2.set (Or.inr (Or.inr rfl))).set (Or.inl rfl), hb2, fun y hy => by rw [(hP2.2.1 y hy).1]; exact hy, hVI.tree hI hp hk hc0 he0 c_27 hP2⟩) ⟨(Nat.le_of_ble_eq_true rfl), (Nat.le_of_ble_eq_true rfl)⟩ dX10_follow_110
  · refine lv_aload_n F.x F.cd dX10_follow_30 rfl (lv_at hl 1 rfl) ?_
    refine s_get F hW (ci := 13) (C := RX10) (T := TX10) (N := 5) (v := .ref la) (e0) rfl in_X10 1 (by decide) q718 (fun _ h9 => h9) rfl dX10_follow_31 ?_
    refine lv_iload_n F.x F.cd dX10_follow_34 rfl (lv_at hl 2 rfl) ?_
    refine lv_aload_n F.x F.cd dX10_follow_35 rfl (lv_at hl 1 rfl) ?_
    refine s_get F hW (ci := 13) (C := RX10) (T := TX10) (N := 5) (v := .ref la) (e0) rfl in_X10 1 (by decide) q718 (fun _ h9 => h9) rfl dX10_follow_36 ?_
    refine lv_iload_n F.x F.cd dX10_follow_39 rfl (lv_at hl 2 rfl) ?_
    refine n_iald (i := t) (n := v 0) (f := (fun x9 => nI (low1 x9))) (x := (nI (low1 t))) F hW (el) (by omega) (by omega) (rfl) dX10_follow_40 ?_
    refine lv_aload_n F.x F.cd dX10_follow_41 rfl (lv_at hl 1 rfl) ?_
    refine s_get F hW (ci := 13) (C := RX10) (T := TX10) (N := 5) (v := .ref na) (e0) rfl in_X10 0 (by decide) q716 (fun _ h9 => h9) rfl dX10_follow_42 ?_
    refine lv_iload_n F.x F.cd dX10_follow_45 rfl (lv_at hl 0 rfl) ?_
    refine n_iald (i := oth (pA v k) (pB v k) t) (n := v 0) (f := (fun x9 => nI (num1 x9))) (x := (nI (num1 (oth (pA v k) (pB v k) t)))) F hW (en) (hov) (by omega) (rfl) dX10_follow_46 ?_
    refine s_mmin (v := (nI (min (low1 t) (num1 (oth (pA v k) (pB v k) t))))) F q748 q453 q87 q454 hl.1 (Nat.le_of_ble_eq_true rfl) (Nat.le_of_ble_eq_true rfl) (Nat.le_of_ble_eq_true rfl) (Nat.le_of_ble_eq_true rfl) (nI_min (by omega) (by omega)) dX10_follow_47 ?_
    refine n_iastN (i := t) F hW (el) (bl) (by omega) (by omega) dX10_follow_50 (fun H locs hW => ?_)
    obtain ⟨σ15, hσ15⟩ : ∃ z, z = sset σ la (eI g 0 (v 0) (fun x9 => nI ((va_up low1 t (min (low1 t) (num1 (oth (pA v k) (pB v k) t)))) x9))) := ⟨_, rfl⟩
    have hW : Hl g σ15 H locs := by rw [hσ15]; exact hW
    have w15 : σ15 la = some (eI g 0 (v 0) (fun x9 => nI ((va_up low1 t (min (low1 t) (num1 (oth (pA v k) (pB v k) t)))) x9))) := by rw [hσ15]; exact sset_eq
    have f16 : σ15 (L 0) = some (.inr (1, [.ref (L 1), .ref (L 2), .int (nI (v 2)), .int (nI (v 3)), .int (nI (v 4)), .int (nI (v 5))])) := by rw [hσ15, sset_ne (sto_ne el hWk.1 (by simp))]; exact hWk.1
    have f17 : σ15 (L 1) = some (.inr (2, [.int mcT, .ref (L 3), .int (nI (v 0))])) := by rw [hσ15, sset_ne (sto_ne el eT (by simp))]; exact eT
    have j18 := IsList.setI (e := eI g 0 (v 0) (fun x9 => nI ((va_up low1 t (min (low1 t) (num1 (oth (pA v k) (pB v k) t)))) x9))) (hT) (el)
    rw [← hσ15] at j18
    have f19 : σ15 (L 2) = some (.inr (2, [.int mcP, .ref (L 4), .int (nI (v 1))])) := by rw [hσ15, sset_ne (sto_ne el eP (by simp))]; exact eP
    have j20 := IsList.setI (e := eI g 0 (v 0) (fun x9 => nI ((va_up low1 t (min (low1 t) (num1 (oth (pA v k) (pB v k) t)))) x9))) (hP) (el)
    rw [← hσ15] at j20
    have f21 : σ15 h = some (.inr (13, [.ref na, .ref la, .int (nI nx1), .int (nI br1), .ref (L 0)])) := by rw [hσ15, sset_ne (sto_ne el e0 (by simp))]; exact e0
    have f22 : σ15 (L (100 + k)) = some (.inr (9, [.int (nI (pA v k)), .int (nI (pB v k)), .int (nI (pM v k)), .int (nI (pV v k)), .int (nI (pR v k)), .int (nI (pD v k)), .int (nI (pL v k))])) := by rw [hσ15, sset_ne (sto_ne el ((hWk.2.2.2.2.2.1 k (by omega)).1) (by simp))]; exact (hWk.2.2.2.2.2.1 k (by omega)).1
    have f23 : σ15 na = some (eI g 0 (v 0) (fun x9 => nI (num1 x9))) := by rw [hσ15, sset_ne (hnl)]; exact en
    refine lv_goto (tgt := 110) F.x F.cd dX10_follow_51 (by decide) ?_
    subst hQ
    exact s_retv F hW (⟨rfl, _, _, _, _, f21, f23, w15, by rw [hσ15]; exact Fn.refl.set (Or.inr (Or.inr rfl)), hnx, fun y hy => hy, hVI.back hI hp hk hc0 he0 (by omega)⟩) ⟨(Nat.le_of_ble_eq_true rfl), (Nat.le_of_ble_eq_true rfl)⟩ dX10_follow_110
set_option maxHeartbeats 4000000 in
theorem k_X10_visit_6 (g : Gh) (l : Launch) (σ : Sto) (L v : Nat → Nat) (h na la t nx br : Nat) (c : Int32) (num low : Nat → Nat) (hWk : IsWorks g σ L v) (hI : Inv v) (e0 : σ h = some (.inr (13, [.ref na, .ref la, .int (nI nx), .int (nI br), .ref (L 0)]))) (en : σ na = some (eI g 0 (v 0) (fun x9 => nI (num x9)))) (el : σ la = some (eI g 0 (v 0) (fun x9 => nI (low x9)))) (bh : gB g ≤ h) (bn : gB g ≤ na) (bl : gB g ≤ la) (hnl : na ≠ la) (hp : VPre v num nx t c) (hun : unvN (fun y => decide (0 < num y)) 8 ≤ 6) (hnx : nx + unvN (fun y => decide (0 < num y)) 8 ≤ 9) : Ct g l yX10_visit cX10_visit 4 none ({ frames := 14, cells := 0, slots := 0, locals := 317 } : Room) [.ref h, .int (nI t), .int c] σ (fun r σ' => r = none ∧ ∃ (num' low' : Nat → Nat) (nx' br' : Nat), σ' h = some (.inr (13, [.ref na, .ref la, .int (nI nx'), .int (nI br'), .ref (L 0)])) ∧ σ' na = some (eI g 0 (v 0) (fun x9 => nI (num' x9))) ∧ σ' la = some (eI g 0 (v 0) (fun x9 => nI (low' x9))) ∧ Fn σ σ' h na la ∧ nx' + unvN (fun y => decide (0 < num' y)) 8 ≤ 9 ∧ VP v c num low nx br t num' low' nx' br') (nox) := by
  refine Ct.body (by decide) (Nat.le_of_ble_eq_true rfl) ?_
  intro p_ e_ s_ m_ args_ below_ meth_ c_ ls H locs Q F hW hl hQ
  have hl : lv_has ls 4 [(0, .ref h), (1, .int (nI t)), (2, .int c)] := hl
  have hT := hWk.2.2.1
  have hP := hWk.2.2.2.1
  obtain ⟨mcT, nT, fT, eT, bT, -⟩ := id hT
  obtain ⟨mcP, nP, fP, eP, bP, -⟩ := id hP
  have hv0 := hI.1
  have hv1 := hI.2.1
  have hlt9 := unvN_lt (R := fun y => decide (0 < num y)) (R' := fun y => decide (0 < va_up num t nx y)) (fun y hy => by unfold va_up; split; exact decide_eq_true hp.2.2.1; exact hy) (t := t) (decide_eq_false (by rw [hp.1]; decide)) (decide_eq_true (by rw [va_up_self]; exact hp.2.2.1)) 8 (Nat.lt_of_lt_of_le hp.2.1 hI.1)
  have hpv := hp.2.1
  refine lv_aload_n F.x F.cd dX10_visit_0 rfl (lv_at hl 0 rfl) ?_
  refine s_get F hW (ci := 13) (C := RX10) (T := TX10) (N := 5) (v := .ref na) (e0) rfl in_X10 0 (by decide) q716 (fun _ h9 => h9) rfl dX10_visit_1 ?_
  refine lv_iload_n F.x F.cd dX10_visit_4 rfl (lv_at hl 1 rfl) ?_
  refine lv_aload_n F.x F.cd dX10_visit_5 rfl (lv_at hl 0 rfl) ?_
  refine s_get F hW (ci := 13) (C := RX10) (T := TX10) (N := 5) (v := .int (nI nx)) (e0) rfl in_X10 2 (by decide) q719 (fun _ h9 => h9) rfl dX10_visit_6 ?_
  refine n_iastN (i := t) F hW (en) (bn) (hp.2.1) (by omega) dX10_visit_9 (fun H locs hW => ?_)
  obtain ⟨σ1, hσ1⟩ : ∃ z, z = sset σ na (eI g 0 (v 0) (fun x9 => nI ((va_up num t nx) x9))) := ⟨_, rfl⟩
  have hW : Hl g σ1 H locs := by rw [hσ1]; exact hW
  have w1 : σ1 na = some (eI g 0 (v 0) (fun x9 => nI ((va_up num t nx) x9))) := by rw [hσ1]; exact sset_eq
  have f2 : σ1 (L 0) = some (.inr (1, [.ref (L 1), .ref (L 2), .int (nI (v 2)), .int (nI (v 3)), .int (nI (v 4)), .int (nI (v 5))])) := by rw [hσ1, sset_ne (sto_ne en hWk.1 (by simp))]; exact hWk.1
  have f3 : σ1 (L 1) = some (.inr (2, [.int mcT, .ref (L 3), .int (nI (v 0))])) := by rw [hσ1, sset_ne (sto_ne en eT (by simp))]; exact eT
  have j4 := IsList.setI (e := eI g 0 (v 0) (fun x9 => nI ((va_up num t nx) x9))) (hT) (en)
  rw [← hσ1] at j4
  have f5 : σ1 (L 2) = some (.inr (2, [.int mcP, .ref (L 4), .int (nI (v 1))])) := by rw [hσ1, sset_ne (sto_ne en eP (by simp))]; exact eP
  have j6 := IsList.setI (e := eI g 0 (v 0) (fun x9 => nI ((va_up num t nx) x9))) (hP) (en)
  rw [← hσ1] at j6
  have f7 : σ1 h = some (.inr (13, [.ref na, .ref la, .int (nI nx), .int (nI br), .ref (L 0)])) := by rw [hσ1, sset_ne (sto_ne en e0 (by simp))]; exact e0
  have f8 : σ1 la = some (eI g 0 (v 0) (fun x9 => nI (low x9))) := by rw [hσ1, sset_ne (Ne.symm hnl)]; exact el
  refine lv_aload_n F.x F.cd dX10_visit_10 rfl (lv_at hl 0 rfl) ?_
  refine s_get F hW (ci := 13) (C := RX10) (T := TX10) (N := 5) (v := .ref la) (f7) rfl in_X10 1 (by decide) q718 (fun _ h9 => h9) rfl dX10_visit_11 ?_
  refine lv_iload_n F.x F.cd dX10_visit_14 rfl (lv_at hl 1 rfl) ?_
  refine lv_aload_n F.x F.cd dX10_visit_15 rfl (lv_at hl 0 rfl) ?_
  refine s_get F hW (ci := 13) (C := RX10) (T := TX10) (N := 5) (v := .int (nI nx)) (f7) rfl in_X10 2 (by decide) q719 (fun _ h9 => h9) rfl dX10_visit_16 ?_
  refine n_iastN (i := t) F hW (f8) (bl) (hp.2.1) (by omega) dX10_visit_19 (fun H locs hW => ?_)
  obtain ⟨σ9, hσ9⟩ : ∃ z, z = sset σ1 la (eI g 0 (v 0) (fun x9 => nI ((va_up low t nx) x9))) := ⟨_, rfl⟩
  have hW : Hl g σ9 H locs := by rw [hσ9]; exact hW
  have w9 : σ9 la = some (eI g 0 (v 0) (fun x9 => nI ((va_up low t nx) x9))) := by rw [hσ9]; exact sset_eq
  have f10 : σ9 (L 0) = some (.inr (1, [.ref (L 1), .ref (L 2), .int (nI (v 2)), .int (nI (v 3)), .int (nI (v 4)), .int (nI (v 5))])) := by rw [hσ9, sset_ne (sto_ne f8 f2 (by simp))]; exact f2
  have f11 : σ9 (L 1) = some (.inr (2, [.int mcT, .ref (L 3), .int (nI (v 0))])) := by rw [hσ9, sset_ne (sto_ne f8 f3 (by simp))]; exact f3
  have j12 := IsList.setI (e := eI g 0 (v 0) (fun x9 => nI ((va_up low t nx) x9))) (j4) (f8)
  rw [← hσ9] at j12
  have f13 : σ9 (L 2) = some (.inr (2, [.int mcP, .ref (L 4), .int (nI (v 1))])) := by rw [hσ9, sset_ne (sto_ne f8 f5 (by simp))]; exact f5
  have j14 := IsList.setI (e := eI g 0 (v 0) (fun x9 => nI ((va_up low t nx) x9))) (j6) (f8)
  rw [← hσ9] at j14
  have f15 : σ9 h = some (.inr (13, [.ref na, .ref la, .int (nI nx), .int (nI br), .ref (L 0)])) := by rw [hσ9, sset_ne (sto_ne f8 f7 (by simp))]; exact f7
  have f16 : σ9 na = some (eI g 0 (v 0) (fun x9 => nI ((va_up num t nx) x9))) := by rw [hσ9, sset_ne (hnl)]; exact w1
  refine lv_aload_n F.x F.cd dX10_visit_20 rfl (lv_at hl 0 rfl) ?_
  refine lv_dup F.x F.cd dX10_visit_21 rfl ?_
  refine s_get F hW (ci := 13) (C := RX10) (T := TX10) (N := 5) (v := .int (nI nx)) (f15) rfl in_X10 2 (by decide) q719 (fun _ h9 => h9) rfl dX10_visit_22 ?_
  refine lv_iconst (v := (nI 1)) F.x F.cd dX10_visit_25 (by decide) ?_
  refine a_iadd (v := (nI (nx + 1))) F (nI_add _ _) dX10_visit_26 ?_
  refine s_put F hW (ci := 13) (C := RX10) (T := TX10) (N := 5) (v := .int (nI (nx + 1))) (ty := .int) (f15) (bh) rfl in_X10 tyX10_ok nmX10 2 (by decide) q719 (fun _ h9 => h9) rfl (by decide +kernel) rfl rfl (Nat.le_of_ble_eq_true rfl) dX10_visit_27 (fun H locs hW => ?_)
  obtain ⟨σ18, hσ18⟩ : ∃ z, z = sset σ9 h (.inr (13, [.ref na, .ref la, .int (nI (nx + 1)), .int (nI br), .ref (L 0)])) := ⟨_, rfl⟩
  have hW : Hl g σ18 H locs := by rw [hσ18]; exact hW
  have w18 : σ18 h = some (.inr (13, [.ref na, .ref la, .int (nI (nx + 1)), .int (nI br), .ref (L 0)])) := by rw [hσ18]; exact sset_eq
  have f19 : σ18 (L 0) = some (.inr (1, [.ref (L 1), .ref (L 2), .int (nI (v 2)), .int (nI (v 3)), .int (nI (v 4)), .int (nI (v 5))])) := by rw [hσ18, sset_ne (sto_ne f15 f10 (by simp))]; exact f10
  have f20 : σ18 (L 1) = some (.inr (2, [.int mcT, .ref (L 3), .int (nI (v 0))])) := by rw [hσ18, sset_ne (sto_ne f15 f11 (by simp))]; exact f11
  have j21 := IsList.setO (e := .inr (13, [.ref na, .ref la, .int (nI (nx + 1)), .int (nI br), .ref (L 0)])) (j12) (f15) (by decide)
  rw [← hσ18] at j21
  have f22 : σ18 (L 2) = some (.inr (2, [.int mcP, .ref (L 4), .int (nI (v 1))])) := by rw [hσ18, sset_ne (sto_ne f15 f13 (by simp))]; exact f13
  have j23 := IsList.setO (e := .inr (13, [.ref na, .ref la, .int (nI (nx + 1)), .int (nI br), .ref (L 0)])) (j14) (f15) (by decide)
  rw [← hσ18] at j23
  have f24 : σ18 na = some (eI g 0 (v 0) (fun x9 => nI ((va_up num t nx) x9))) := by rw [hσ18, sset_ne (sto_ne f15 f16 (by simp))]; exact f16
  have f25 : σ18 la = some (eI g 0 (v 0) (fun x9 => nI ((va_up low t nx) x9))) := by rw [hσ18, sset_ne (sto_ne f15 w9 (by simp))]; exact w9
  refine lv_iconst (v := (nI 0)) F.x F.cd dX10_visit_30 (by decide) ?_
  refine lv_istore_n (lv' := [(3, .int (nI 0)), (0, .ref h), (1, .int (nI t)), (2, .int c)]) F.x F.cd dX10_visit_31 rfl hl (by decide) rfl (fun ls hl => ?_)
  have loop32 : ∀ (n : Nat) (k : Nat) (σk : Sto) (num1 low1 : Nat → Nat) (nx1 br1 : Nat), k + n = v 1 → σk h = some (.inr (13, [.ref na, .ref la, .int (nI nx1), .int (nI br1), .ref (L 0)])) → σk na = some (eI g 0 (v 0) (fun x9 => nI (num1 x9))) → σk la = some (eI g 0 (v 0) (fun x9 => nI (low1 x9))) → Fn σ σk h na la → nx1 + unvN (fun y => decide (0 < num1 y)) 8 ≤ 9 → unvN (fun y => decide (0 < num1 y)) 8 ≤ 5 → VI v c num low nx br t num1 low1 nx1 br1 k → ∀ (H : Heap) (locs : List Loc) (ls : Array Slot), Hl g σk H locs → lv_has ls 4 [(0, .ref h), (1, .int (nI t)), (2, .int c), (3, .int (nI k))] → W p_ l e_ ({ frames := 14, cells := 0, slots := 0, locals := 317 } : Room) s_ m_ args_ below_ meth_ c_ H locs 0 0 Q (F0 m_ 32 ls ([])) := by
    intro n
    induction n with
    | zero =>
      intro k σk num1 low1 nx1 br1 hkn e1 en1 el1 hFk hb1 hu1 hVI H locs ls hW hl
      have hWn := hWk.fn hFk e0 en el
      have hT_k := hWn.2.2.1
      have hP_k := hWn.2.2.2.1
      obtain ⟨mcT_k, nT_k, fT_k, eT_k, bT_k, -⟩ := id hT_k
      obtain ⟨mcP_k, nP_k, fP_k, eP_k, bP_k, -⟩ := id hP_k
      have hv0_k := hI.1
      have hv1_k := hI.2.1
      refine lv_iload_n F.x F.cd dX10_visit_32 rfl (lv_at hl 3 rfl) ?_
      refine lv_aload_n F.x F.cd dX10_visit_33 rfl (lv_at hl 0 rfl) ?_
      refine s_get F hW (ci := 13) (C := RX10) (T := TX10) (N := 5) (v := .ref (L 0)) (e1) rfl in_X10 4 (by decide) q722 (fun _ h9 => h9) rfl dX10_visit_34 ?_
      refine s_getN F hW (ci := 1) (C := RX2) (T := TX2) (N := 6) (v := .ref (L 2)) (hWn.1) rfl in_X2 1 (by decide) q164 (fun _ h9 => h9) rfl dX10_visit_37 ?_
      refine s_callF (As := []) (rest := [.int (nI k)]) (C := RJ2) (T := TJ2) (N := 3) (n := 0) F hW (k_J2_size g l σk _ _ _ _ hP_k) (eP_k) rfl (List.mem_of_getElem? (i := 0) rfl) q715 q272 q274 q72 q276 (by decide +kernel) rfl ⟨⟨Nat.le_of_ble_eq_true rfl, Nat.le_of_ble_eq_true rfl⟩, ⟨(Nat.le_of_ble_eq_true rfl), (Nat.le_of_ble_eq_true rfl)⟩⟩ (Nat.le_of_ble_eq_true rfl) hl.1 rfl dX10_visit_40 cX_no (fun r26 σ26 H locs hp26 hW => ?_)
      obtain ⟨rfl, hs26⟩ := hp26
      rw [hs26] at hW
      refine W.eq (g2 := F0 m_ 45 ls (.int (nI (v 1)) :: .int (nI k) :: [])) rfl ?_
      refine n_icmp_ge (a := k) (b := v 1) (tgt := 110) F (by omega) (by omega) dX10_visit_45 (by decide) (fun c_45 => ?_) (fun c_45 => ?_)
      · subst hQ
        exact s_retv F hW (⟨rfl, _, _, _, _, e1, en1, el1, hFk, hb1, VI.done hp (by rw [← show k = v 1 by omega]; exact hVI)⟩) ⟨(Nat.le_of_ble_eq_true rfl), (Nat.le_of_ble_eq_true rfl)⟩ dX10_visit_110
      · exact absurd c_45 (by omega)
    | succ n ih32 =>
      intro k σk num1 low1 nx1 br1 hkn e1 en1 el1 hFk hb1 hu1 hVI H locs ls hW hl
      have hWn := hWk.fn hFk e0 en el
      have hT_k := hWn.2.2.1
      have hP_k := hWn.2.2.2.1
      obtain ⟨mcT_k, nT_k, fT_k, eT_k, bT_k, -⟩ := id hT_k
      obtain ⟨mcP_k, nP_k, fP_k, eP_k, bP_k, -⟩ := id hP_k
      have hv0_k := hI.1
      have hv1_k := hI.2.1
      refine lv_iload_n F.x F.cd dX10_visit_32 rfl (lv_at hl 3 rfl) ?_
      refine lv_aload_n F.x F.cd dX10_visit_33 rfl (lv_at hl 0 rfl) ?_
      refine s_get F hW (ci := 13) (C := RX10) (T := TX10) (N := 5) (v := .ref (L 0)) (e1) rfl in_X10 4 (by decide) q722 (fun _ h9 => h9) rfl dX10_visit_34 ?_
      refine s_getN F hW (ci := 1) (C := RX2) (T := TX2) (N := 6) (v := .ref (L 2)) (hWn.1) rfl in_X2 1 (by decide) q164 (fun _ h9 => h9) rfl dX10_visit_37 ?_
      refine s_callF (As := []) (rest := [.int (nI k)]) (C := RJ2) (T := TJ2) (N := 3) (n := 0) F hW (k_J2_size g l σk _ _ _ _ hP_k) (eP_k) rfl (List.mem_of_getElem? (i := 0) rfl) q715 q272 q274 q72 q276 (by decide +kernel) rfl ⟨⟨Nat.le_of_ble_eq_true rfl, Nat.le_of_ble_eq_true rfl⟩, ⟨(Nat.le_of_ble_eq_true rfl), (Nat.le_of_ble_eq_true rfl)⟩⟩ (Nat.le_of_ble_eq_true rfl) hl.1 rfl dX10_visit_40 cX_no (fun r27 σ27 H locs hp27 hW => ?_)
      obtain ⟨rfl, hs27⟩ := hp27
      rw [hs27] at hW
      refine W.eq (g2 := F0 m_ 45 ls (.int (nI (v 1)) :: .int (nI k) :: [])) rfl ?_
      refine n_icmp_ge (a := k) (b := v 1) (tgt := 110) F (by omega) (by omega) dX10_visit_45 (by decide) (fun c_45 => ?_) (fun c_45 => ?_)
      · exact absurd c_45 (by omega)
      · have hpq := hI.pp (q := k) (by omega)
        refine lv_iload_n F.x F.cd dX10_visit_48 rfl (lv_at hl 3 rfl) ?_
        refine lv_iload_n F.x F.cd dX10_visit_49 rfl (lv_at hl 2 rfl) ?_
        refine lv_icmp_eq (x := (nI k)) (y := c) (tgt := 104) F.x F.cd dX10_visit_50 (by decide) (fun c_50 => ?_) (fun c_50 => ?_)
        · refine lv_iinc (k := 3) (v := (nI (k + 1))) (lv' := [(3, .int (nI (k + 1))), (0, .ref h), (1, .int (nI t)), (2, .int c)]) F.x F.cd dX10_visit_104 hl rfl (inc_nI k 1) (by decide) rfl (fun ls hl => ?_)
          refine lv_goto (tgt := 32) F.x F.cd dX10_visit_107 (by decide) ?_
          exact ih32 (k + 1) σk num1 low1 nx1 br1 (by omega) (e1) (en1) (el1) (hFk) (hb1) (hu1) (hVI.skip (Or.inl c_50)) H locs ls hW (lv_sub hl [1, 2, 3, 0] rfl)
        · refine lv_aload_n F.x F.cd dX10_visit_53 rfl (lv_at hl 0 rfl) ?_
          refine s_get F hW (ci := 13) (C := RX10) (T := TX10) (N := 5) (v := .ref (L 0)) (e1) rfl in_X10 4 (by decide) q722 (fun _ h9 => h9) rfl dX10_visit_54 ?_
          refine s_getN F hW (ci := 1) (C := RX2) (T := TX2) (N := 6) (v := .ref (L 2)) (hWn.1) rfl in_X2 1 (by decide) q164 (fun _ h9 => h9) rfl dX10_visit_57 ?_
          refine lv_iload_n F.x F.cd dX10_visit_60 rfl (lv_at hl 3 rfl) ?_
          refine s_callF (As := [.int (nI k)]) (rest := []) (C := RJ2) (T := TJ2) (N := 3) (n := 1) F hW (k_J2_get g l σk _ _ _ _ k hP_k (by omega)) (eP_k) rfl (List.mem_of_getElem? (i := 1) rfl) q739 q328 q330 q72 q332 (by decide +kernel) rfl ⟨⟨Nat.le_of_ble_eq_true rfl, Nat.le_of_ble_eq_true rfl⟩, ⟨(Nat.le_of_ble_eq_true rfl), (Nat.le_of_ble_eq_true rfl)⟩⟩ (Nat.le_of_ble_eq_true rfl) hl.1 rfl dX10_visit_61 cX_no (fun r28 σ28 H locs hp28 hW => ?_)
          obtain ⟨rfl, hs28⟩ := hp28
          rw [hs28] at hW
          refine W.eq (g2 := F0 m_ 66 ls (.ref (L (100 + k)) :: [])) rfl ?_
          refine s_cast_ F hW (C := RX5) (T := TX5) (N := 7) ((hWn.2.2.2.2.2.1 k (by omega)).1) rfl q740 dX10_visit_66 ?_
          refine s_callV (As := []) (rest := []) (C := RX5) (T := TX5) (N := 7) (n := 0) F hW (k_X5_isOpen g l σk (L (100 + k)) (pA v k) (pB v k) (pM v k) (pV v k) (pR v k) (pD v k) (pL v k) ((hWn.2.2.2.2.2.1 k (by omega)).1) (by omega) (by omega)) ((hWn.2.2.2.2.2.1 k (by omega)).1) rfl q741 q672 q673 q96 q674 rfl (by decide +kernel) rfl ⟨⟨Nat.le_of_ble_eq_true rfl, Nat.le_of_ble_eq_true rfl⟩, ⟨(Nat.le_of_ble_eq_true rfl), (Nat.le_of_ble_eq_true rfl)⟩⟩ (Nat.le_of_ble_eq_true rfl) hl.1 rfl dX10_visit_69 cX_no (fun r29 σ29 H locs hp29 hW => ?_)
          obtain ⟨rfl, hs29⟩ := hp29
          rw [hs29] at hW
          refine W.eq (g2 := F0 m_ 72 ls (.int (bI (opn (pV v k) (pD v k))) :: [])) rfl ?_
          refine b_if_eq (b := (opn (pV v k) (pD v k))) (tgt := 104) F dX10_visit_72 (by decide) (fun c_72 => ?_) (fun c_72 => ?_)
          · refine lv_iinc (k := 3) (v := (nI (k + 1))) (lv' := [(3, .int (nI (k + 1))), (0, .ref h), (1, .int (nI t)), (2, .int c)]) F.x F.cd dX10_visit_104 hl rfl (inc_nI k 1) (by decide) rfl (fun ls hl => ?_)
            refine lv_goto (tgt := 32) F.x F.cd dX10_visit_107 (by decide) ?_
            exact ih32 (k + 1) σk num1 low1 nx1 br1 (by omega) (e1) (en1) (el1) (hFk) (hb1) (hu1) (hVI.skip (Or.inr (fun z hz => by rw [hz.1] at c_72; cases c_72))) H locs ls hW (lv_sub hl [1, 2, 3, 0] rfl)
          · refine lv_aload_n F.x F.cd dX10_visit_75 rfl (lv_at hl 0 rfl) ?_
            refine s_get F hW (ci := 13) (C := RX10) (T := TX10) (N := 5) (v := .ref (L 0)) (e1) rfl in_X10 4 (by decide) q722 (fun _ h9 => h9) rfl dX10_visit_76 ?_
            refine s_getN F hW (ci := 1) (C := RX2) (T := TX2) (N := 6) (v := .ref (L 2)) (hWn.1) rfl in_X2 1 (by decide) q164 (fun _ h9 => h9) rfl dX10_visit_79 ?_
            refine lv_iload_n F.x F.cd dX10_visit_82 rfl (lv_at hl 3 rfl) ?_
            refine s_callF (As := [.int (nI k)]) (rest := []) (C := RJ2) (T := TJ2) (N := 3) (n := 1) F hW (k_J2_get g l σk _ _ _ _ k hP_k (by omega)) (eP_k) rfl (List.mem_of_getElem? (i := 1) rfl) q739 q328 q330 q72 q332 (by decide +kernel) rfl ⟨⟨Nat.le_of_ble_eq_true rfl, Nat.le_of_ble_eq_true rfl⟩, ⟨(Nat.le_of_ble_eq_true rfl), (Nat.le_of_ble_eq_true rfl)⟩⟩ (Nat.le_of_ble_eq_true rfl) hl.1 rfl dX10_visit_83 cX_no (fun r30 σ30 H locs hp30 hW => ?_)
            obtain ⟨rfl, hs30⟩ := hp30
            rw [hs30] at hW
            refine W.eq (g2 := F0 m_ 88 ls (.ref (L (100 + k)) :: [])) rfl ?_
            refine s_cast_ F hW (C := RX5) (T := TX5) (N := 7) ((hWn.2.2.2.2.2.1 k (by omega)).1) rfl q740 dX10_visit_88 ?_
            refine lv_iload_n F.x F.cd dX10_visit_91 rfl (lv_at hl 1 rfl) ?_
            refine s_callV (As := [.int (nI t)]) (rest := []) (C := RX5) (T := TX5) (N := 7) (n := 1) F hW (k_X5_touches g l σk (L (100 + k)) (pA v k) (pB v k) (pM v k) (pV v k) (pR v k) (pD v k) (pL v k) t ((hWn.2.2.2.2.2.1 k (by omega)).1) (by omega) (by omega) (by omega)) ((hWn.2.2.2.2.2.1 k (by omega)).1) rfl q742 q676 q677 q96 q678 rfl (by decide +kernel) rfl ⟨⟨Nat.le_of_ble_eq_true rfl, Nat.le_of_ble_eq_true rfl⟩, ⟨(Nat.le_of_ble_eq_true rfl), (Nat.le_of_ble_eq_true rfl)⟩⟩ (Nat.le_of_ble_eq_true rfl) hl.1 rfl dX10_visit_92 cX_no (fun r31 σ31 H locs hp31 hW => ?_)
            obtain ⟨rfl, hs31⟩ := hp31
            rw [hs31] at hW
            refine W.eq (g2 := F0 m_ 95 ls (.int (bI (tch (pA v k) (pB v k) t)) :: [])) rfl ?_
            refine b_if_eq (b := (tch (pA v k) (pB v k) t)) (tgt := 104) F dX10_visit_95 (by decide) (fun c_95 => ?_) (fun c_95 => ?_)
            · refine lv_iinc (k := 3) (v := (nI (k + 1))) (lv' := [(3, .int (nI (k + 1))), (0, .ref h), (1, .int (nI t)), (2, .int c)]) F.x F.cd dX10_visit_104 hl rfl (inc_nI k 1) (by decide) rfl (fun ls hl => ?_)
              refine lv_goto (tgt := 32) F.x F.cd dX10_visit_107 (by decide) ?_
              exact ih32 (k + 1) σk num1 low1 nx1 br1 (by omega) (e1) (en1) (el1) (hFk) (hb1) (hu1) (hVI.skip (Or.inr (fun z hz => by have h9 := hz.2; rw [show tch (pA v k) (pB v k) t = true from decide_eq_true (h9.elim (fun h => Or.inl h.1) (fun h => Or.inr h.1))] at c_95; cases c_95))) H locs ls hW (lv_sub hl [1, 2, 3, 0] rfl)
            · refine lv_aload_n F.x F.cd dX10_visit_98 rfl (lv_at hl 0 rfl) ?_
              refine lv_iload_n F.x F.cd dX10_visit_99 rfl (lv_at hl 1 rfl) ?_
              refine lv_iload_n F.x F.cd dX10_visit_100 rfl (lv_at hl 3 rfl) ?_
              refine s_callV (As := [.int (nI t), .int (nI k)]) (rest := []) (C := RX10) (T := TX10) (N := 5) (n := 2) F hW (k_X10_follow_6 g l σk L v h na la t nx br c num low num1 low1 nx1 br1 k hWn hI e1 en1 el1 bh bn bl hnl hp hVI (by omega) c_50 ⟨c_72, tch_oth c_95 (hI.pp (show k < v 1 by omega)).2.2.1⟩ hu1 hb1) (e1) rfl q743 q745 qs4 q108 q746 rfl (by decide +kernel) rfl ⟨⟨Nat.le_of_ble_eq_true rfl, Nat.le_of_ble_eq_true rfl⟩, ⟨(Nat.le_of_ble_eq_true rfl), (Nat.le_of_ble_eq_true rfl)⟩⟩ (Nat.le_of_ble_eq_true rfl) hl.1 rfl dX10_visit_101 cX_no (fun r32 σ32 H locs hp32 hW => ?_)
              obtain ⟨rfl, num2, low2, nx2, br2, e2, en2, el2, hF2, hb2, hm2, hVI2⟩ := hp32
              refine W.eq (g2 := F0 m_ 104 ls ([])) rfl ?_
              refine lv_iinc (k := 3) (v := (nI (k + 1))) (lv' := [(3, .int (nI (k + 1))), (0, .ref h), (1, .int (nI t)), (2, .int c)]) F.x F.cd dX10_visit_104 hl rfl (inc_nI k 1) (by decide) rfl (fun ls hl => ?_)
              refine lv_goto (tgt := 32) F.x F.cd dX10_visit_107 (by decide) ?_
              exact ih32 (k + 1) σ32 num2 low2 nx2 br2 (by omega) (e2) (en2) (el2) (hFk.trans hF2) (hb2) (Nat.le_trans (unvN_le (fun y hy => decide_eq_true (hm2 y (of_decide_eq_true hy))) 8) hu1) (hVI2) H locs ls hW (lv_sub hl [1, 2, 3, 0] rfl)
  exact loop32 (v 1) 0 _ _ _ _ _ (by omega) (w18) (f24) (f25) (by rw [hσ18, hσ9, hσ1]; exact ((Fn.refl.set (Or.inr (Or.inl rfl))).set (Or.inr (Or.inr rfl))).set (Or.inl rfl)) (by have h9 := hlt9; omega) (by have h9 := hlt9; omega) (VI.start hI hp) H locs ls hW (lv_sub hl [1, 2, 3, 0] rfl)
set_option maxHeartbeats 4000000 in
theorem k_X10_follow_7 (g : Gh) (l : Launch) (σ : Sto) (L v : Nat → Nat) (h na la t nx br : Nat) (c : Int32) (num low : Nat → Nat) (num1 low1 : Nat → Nat) (nx1 br1 k : Nat) (hWk : IsWorks g σ L v) (hI : Inv v) (e0 : σ h = some (.inr (13, [.ref na, .ref la, .int (nI nx1), .int (nI br1), .ref (L 0)]))) (en : σ na = some (eI g 0 (v 0) (fun x9 => nI (num1 x9)))) (el : σ la = some (eI g 0 (v 0) (fun x9 => nI (low1 x9)))) (bh : gB g ≤ h) (bn : gB g ≤ na) (bl : gB g ≤ la) (hnl : na ≠ la) (hp : VPre v num nx t c) (hVI : VI v c num low nx br t num1 low1 nx1 br1 k) (hk : k < v 1) (hc0 : nI k ≠ c) (he0 : edg v k t (oth (pA v k) (pB v k) t)) (hun : unvN (fun y => decide (0 < num1 y)) 8 ≤ 6) (hnx : nx1 + unvN (fun y => decide (0 < num1 y)) 8 ≤ 9) : Ct g l yX10_follow cX10_follow 4 none ({ frames := 15, cells := 0, slots := 0, locals := 340 } : Room) [.ref h, .int (nI t), .int (nI k)] σ (fun r σ' => r = none ∧ ∃ (num' low' : Nat → Nat) (nx' br' : Nat), σ' h = some (.inr (13, [.ref na, .ref la, .int (nI nx'), .int (nI br'), .ref (L 0)])) ∧ σ' na = some (eI g 0 (v 0) (fun x9 => nI (num' x9))) ∧ σ' la = some (eI g 0 (v 0) (fun x9 => nI (low' x9))) ∧ Fn σ σ' h na la ∧ nx' + unvN (fun y => decide (0 < num' y)) 8 ≤ 9 ∧ (∀ y, 0 < num1 y → 0 < num' y) ∧ VI v c num low nx br t num' low' nx' br' (k + 1)) (nox) := by
  refine Ct.body (by decide) (Nat.le_of_ble_eq_true rfl) ?_
  intro p_ e_ s_ m_ args_ below_ meth_ c_ ls H locs Q F hW hl hQ
  have hl : lv_has ls 4 [(0, .ref h), (1, .int (nI t)), (2, .int (nI k))] := hl
  have hT := hWk.2.2.1
  have hP := hWk.2.2.2.1
  obtain ⟨mcT, nT, fT, eT, bT, -⟩ := id hT
  obtain ⟨mcP, nP, fP, eP, bP, -⟩ := id hP
  have hv0 := hI.1
  have hv1 := hI.2.1
  have hpq := hI.pp hk
  have htv := hp.2.1
  have hov := oth_lt (t := t) hpq.1 hpq.2.1
  have hnb := fun y => hVI.2.2.2.1.2 y
  have hno := hnb (oth (pA v k) (pB v k) t)
  have hlt := hVI.2.2.2.2.2.2.2.1.1
  have hnn := hVI.2.2.2.1.1
  refine lv_aload_n F.x F.cd dX10_follow_0 rfl (lv_at hl 0 rfl) ?_
  refine s_get F hW (ci := 13) (C := RX10) (T := TX10) (N := 5) (v := .ref (L 0)) (e0) rfl in_X10 4 (by decide) q722 (fun _ h9 => h9) rfl dX10_follow_1 ?_
  refine s_getN F hW (ci := 1) (C := RX2) (T := TX2) (N := 6) (v := .ref (L 2)) (hWk.1) rfl in_X2 1 (by decide) q164 (fun _ h9 => h9) rfl dX10_follow_4 ?_
  refine lv_iload_n F.x F.cd dX10_follow_7 rfl (lv_at hl 2 rfl) ?_
  refine s_callF (As := [.int (nI k)]) (rest := []) (C := RJ2) (T := TJ2) (N := 3) (n := 1) F hW (k_J2_get g l σ _ _ _ _ k hP (by omega)) (eP) rfl (List.mem_of_getElem? (i := 1) rfl) q739 q328 q330 q72 q332 (by decide +kernel) rfl ⟨⟨Nat.le_of_ble_eq_true rfl, Nat.le_of_ble_eq_true rfl⟩, ⟨(Nat.le_of_ble_eq_true rfl), (Nat.le_of_ble_eq_true rfl)⟩⟩ (Nat.le_of_ble_eq_true rfl) hl.1 rfl dX10_follow_8 cX_no (fun r1 σ1 H locs hp1 hW => ?_)
  obtain ⟨rfl, hs1⟩ := hp1
  rw [hs1] at hW
  refine W.eq (g2 := F0 m_ 13 ls (.ref (L (100 + k)) :: [])) rfl ?_
  refine s_cast_ F hW (C := RX5) (T := TX5) (N := 7) ((hWk.2.2.2.2.2.1 k (by omega)).1) rfl q740 dX10_follow_13 ?_
  refine lv_iload_n F.x F.cd dX10_follow_16 rfl (lv_at hl 1 rfl) ?_
  refine s_callV (As := [.int (nI t)]) (rest := []) (C := RX5) (T := TX5) (N := 7) (n := 1) F hW (k_X5_otherEnd g l σ (L (100 + k)) (pA v k) (pB v k) (pM v k) (pV v k) (pR v k) (pD v k) (pL v k) t ((hWk.2.2.2.2.2.1 k (by omega)).1) (by omega) (by omega)) ((hWk.2.2.2.2.2.1 k (by omega)).1) rfl q747 q680 q681 q96 q682 rfl (by decide +kernel) rfl ⟨⟨Nat.le_of_ble_eq_true rfl, Nat.le_of_ble_eq_true rfl⟩, ⟨(Nat.le_of_ble_eq_true rfl), (Nat.le_of_ble_eq_true rfl)⟩⟩ (Nat.le_of_ble_eq_true rfl) hl.1 rfl dX10_follow_17 cX_no (fun r2 σ2 H locs hp2 hW => ?_)
  obtain ⟨rfl, hs2⟩ := hp2
  rw [hs2] at hW
  refine W.eq (g2 := F0 m_ 20 ls (.int (nI (oth (pA v k) (pB v k) t)) :: [])) rfl ?_
  refine lv_istore_n (lv' := [(3, .int (nI (oth (pA v k) (pB v k) t))), (0, .ref h), (1, .int (nI t)), (2, .int (nI k))]) F.x F.cd dX10_follow_20 rfl hl (by decide) rfl (fun ls hl => ?_)
  refine lv_aload_n F.x F.cd dX10_follow_21 rfl (lv_at hl 1 rfl) ?_
  refine s_get F hW (ci := 13) (C := RX10) (T := TX10) (N := 5) (v := .ref na) (e0) rfl in_X10 0 (by decide) q716 (fun _ h9 => h9) rfl dX10_follow_22 ?_
  refine lv_iload_n F.x F.cd dX10_follow_25 rfl (lv_at hl 0 rfl) ?_
  refine n_iald (i := oth (pA v k) (pB v k) t) (n := v 0) (f := (fun x9 => nI (num1 x9))) (x := (nI (num1 (oth (pA v k) (pB v k) t)))) F hW (en) (hov) (by omega) (rfl) dX10_follow_26 ?_
  refine n_if_le (a := num1 (oth (pA v k) (pB v k) t)) (tgt := 54) F (by omega) dX10_follow_27 (by decide) (fun c_27 => ?_) (fun c_27 => ?_)
  · refine lv_aload_n F.x F.cd dX10_follow_54 rfl (lv_at hl 1 rfl) ?_
    refine lv_iload_n F.x F.cd dX10_follow_55 rfl (lv_at hl 0 rfl) ?_
    refine lv_iload_n F.x F.cd dX10_follow_56 rfl (lv_at hl 3 rfl) ?_
    refine s_callV (As := [.int (nI (oth (pA v k) (pB v k) t)), .int (nI k)]) (rest := []) (C := RX10) (T := TX10) (N := 5) (n := 2) F hW (k_X10_visit_6 g l σ L v h na la (oth (pA v k) (pB v k) t) nx1 br1 (nI k) num1 low1 hWk hI e0 en el bh bn bl hnl (hVI.pre hI hp hk he0 c_27) (by omega) (by omega)) (e0) rfl q749 q735 q736 q108 q737 rfl (by decide +kernel) rfl ⟨⟨Nat.le_of_ble_eq_true rfl, Nat.le_of_ble_eq_true rfl⟩, ⟨(Nat.le_of_ble_eq_true rfl), (Nat.le_of_ble_eq_true rfl)⟩⟩ (Nat.le_of_ble_eq_true rfl) hl.1 rfl dX10_follow_57 cX_no (fun r3 σ3 H locs hp3 hW => ?_)
    obtain ⟨rfl, num2, low2, nx2, br2, e2, en2, el2, hF2, hb2, hP2⟩ := hp3
    refine W.eq (g2 := F0 m_ 60 ls ([])) rfl ?_
    have hlo2 := hP2.2.2.2.2.2.2.1.1
    have hlt2 := (hP2.2.1 t (by rw [hVI.1]; exact hp.2.2.1))
    have hnt2 := hP2.2.2.2.1.2 t
    have hl22 := hlt2.2
    rw [← hl22] at hlt
    refine lv_aload_n F.x F.cd dX10_follow_60 rfl (lv_at hl 1 rfl) ?_
    refine s_get F hW (ci := 13) (C := RX10) (T := TX10) (N := 5) (v := .ref la) (e2) rfl in_X10 1 (by decide) q718 (fun _ h9 => h9) rfl dX10_follow_61 ?_
    refine lv_iload_n F.x F.cd dX10_follow_64 rfl (lv_at hl 2 rfl) ?_
    refine lv_aload_n F.x F.cd dX10_follow_65 rfl (lv_at hl 1 rfl) ?_
    refine s_get F hW (ci := 13) (C := RX10) (T := TX10) (N := 5) (v := .ref la) (e2) rfl in_X10 1 (by decide) q718 (fun _ h9 => h9) rfl dX10_follow_66 ?_
    refine lv_iload_n F.x F.cd dX10_follow_69 rfl (lv_at hl 2 rfl) ?_
    refine n_iald (i := t) (n := v 0) (f := (fun x9 => nI (low2 x9))) (x := (nI (low2 t))) F hW (el2) (by omega) (by omega) (rfl) dX10_follow_70 ?_
    refine lv_aload_n F.x F.cd dX10_follow_71 rfl (lv_at hl 1 rfl) ?_
    refine s_get F hW (ci := 13) (C := RX10) (T := TX10) (N := 5) (v := .ref la) (e2) rfl in_X10 1 (by decide) q718 (fun _ h9 => h9) rfl dX10_follow_72 ?_
    refine lv_iload_n F.x F.cd dX10_follow_75 rfl (lv_at hl 0 rfl) ?_
    refine n_iald (i := oth (pA v k) (pB v k) t) (n := v 0) (f := (fun x9 => nI (low2 x9))) (x := (nI (low2 (oth (pA v k) (pB v k) t)))) F hW (el2) (by omega) (by omega) (rfl) dX10_follow_76 ?_
    refine s_mmin (v := (nI (min (low2 t) (low2 (oth (pA v k) (pB v k) t))))) F q748 q453 q87 q454 hl.1 (Nat.le_of_ble_eq_true rfl) (Nat.le_of_ble_eq_true rfl) (Nat.le_of_ble_eq_true rfl) (Nat.le_of_ble_eq_true rfl) (nI_min (by omega) (by omega)) dX10_follow_77 ?_
    refine n_iastN (i := t) F hW (el2) (bl) (by omega) (by omega) dX10_follow_80 (fun H locs hW => ?_)
    obtain ⟨σ4, hσ4⟩ : ∃ z, z = sset σ3 la (eI g 0 (v 0) (fun x9 => nI ((va_up low2 t (min (low2 t) (low2 (oth (pA v k) (pB v k) t)))) x9))) := ⟨_, rfl⟩
    have hW : Hl g σ4 H locs := by rw [hσ4]; exact hW
    have w4 : σ4 la = some (eI g 0 (v 0) (fun x9 => nI ((va_up low2 t (min (low2 t) (low2 (oth (pA v k) (pB v k) t)))) x9))) := by rw [hσ4]; exact sset_eq
    have f5 : σ4 h = some (.inr (13, [.ref na, .ref la, .int (nI nx2), .int (nI br2), .ref (L 0)])) := by rw [hσ4, sset_ne (sto_ne el2 e2 (by simp))]; exact e2
    have f6 : σ4 na = some (eI g 0 (v 0) (fun x9 => nI (num2 x9))) := by rw [hσ4, sset_ne (hnl)]; exact en2
    have hvo : (va_up low2 t (min (low2 t) (low2 (oth (pA v k) (pB v k) t)))) (oth (pA v k) (pB v k) t) = low2 (oth (pA v k) (pB v k) t) := va_up_ne _ _ (edg.ne hI hk he0).symm
    refine lv_aload_n F.x F.cd dX10_follow_81 rfl (lv_at hl 1 rfl) ?_
    refine lv_dup F.x F.cd dX10_follow_82 rfl ?_
    refine s_get F hW (ci := 13) (C := RX10) (T := TX10) (N := 5) (v := .int (nI br2)) (f5) rfl in_X10 3 (by decide) q720 (fun _ h9 => h9) rfl dX10_follow_83 ?_
    refine lv_aload_n F.x F.cd dX10_follow_86 rfl (lv_at hl 1 rfl) ?_
    refine s_get F hW (ci := 13) (C := RX10) (T := TX10) (N := 5) (v := .ref la) (f5) rfl in_X10 1 (by decide) q718 (fun _ h9 => h9) rfl dX10_follow_87 ?_
    refine lv_iload_n F.x F.cd dX10_follow_90 rfl (lv_at hl 0 rfl) ?_
    refine n_iald (i := oth (pA v k) (pB v k) t) (n := v 0) (f := (fun x9 => nI ((va_up low2 t (min (low2 t) (low2 (oth (pA v k) (pB v k) t)))) x9))) (x := (nI ((va_up low2 t (min (low2 t) (low2 (oth (pA v k) (pB v k) t)))) (oth (pA v k) (pB v k) t)))) F hW (w4) (by omega) (by omega) (rfl) dX10_follow_91 ?_
    refine lv_aload_n F.x F.cd dX10_follow_92 rfl (lv_at hl 1 rfl) ?_
    refine s_get F hW (ci := 13) (C := RX10) (T := TX10) (N := 5) (v := .ref na) (f5) rfl in_X10 0 (by decide) q716 (fun _ h9 => h9) rfl dX10_follow_93 ?_
    refine lv_iload_n F.x F.cd dX10_follow_96 rfl (lv_at hl 2 rfl) ?_
    refine n_iald (i := t) (n := v 0) (f := (fun x9 => nI (num2 x9))) (x := (nI (num2 t))) F hW (f6) (by omega) (by omega) (rfl) dX10_follow_97 ?_
    refine n_icmp_le (a := (va_up low2 t (min (low2 t) (low2 (oth (pA v k) (pB v k) t)))) (oth (pA v k) (pB v k) t)) (b := num2 t) (tgt := 105) F (by omega) (by omega) dX10_follow_98 (by decide) (fun c_98 => ?_) (fun c_98 => ?_)
    · refine lv_iconst (v := (nI 0)) F.x F.cd dX10_follow_105 (by decide) ?_
      refine W.eq (g2 := F0 m_ 106 ls (.int (nI (if num2 t < low2 (oth (pA v k) (pB v k) t) then 1 else 0)) :: .int (nI br2) :: .ref h :: [])) (by rw [if_neg (by omega)]) ?_
      refine a_iadd (v := (nI (br2 + (if num2 t < low2 (oth (pA v k) (pB v k) t) then 1 else 0)))) F (nI_add _ _) dX10_follow_106 ?_
      refine s_put F hW (ci := 13) (C := RX10) (T := TX10) (N := 5) (v := .int (nI (br2 + (if num2 t < low2 (oth (pA v k) (pB v k) t) then 1 else 0)))) (ty := .int) (f5) (bh) rfl in_X10 tyX10_ok nmX10 3 (by decide) q720 (fun _ h9 => h9) rfl (by decide +kernel) rfl rfl (Nat.le_of_ble_eq_true rfl) dX10_follow_107 (fun H locs hW => ?_)
      obtain ⟨σ8, hσ8⟩ : ∃ z, z = sset σ4 h (.inr (13, [.ref na, .ref la, .int (nI nx2), .int (nI (br2 + (if num2 t < low2 (oth (pA v k) (pB v k) t) then 1 else 0))), .ref (L 0)])) := ⟨_, rfl⟩
      have hW : Hl g σ8 H locs := by rw [hσ8]; exact hW
      have w8 : σ8 h = some (.inr (13, [.ref na, .ref la, .int (nI nx2), .int (nI (br2 + (if num2 t < low2 (oth (pA v k) (pB v k) t) then 1 else 0))), .ref (L 0)])) := by rw [hσ8]; exact sset_eq
      have f9 : σ8 na = some (eI g 0 (v 0) (fun x9 => nI (num2 x9))) := by rw [hσ8, sset_ne (sto_ne f5 f6 (by simp))]; exact f6
      have f10 : σ8 la = some (eI g 0 (v 0) (fun x9 => nI ((va_up low2 t (min (low2 t) (low2 (oth (pA v k) (pB v k) t)))) x9))) := by rw [hσ8, sset_ne (sto_ne f5 w4 (by simp))]; exact w4
      subst hQ
      exact s_retv F hW (⟨rfl, _, _, _, _, w8, f9, f10, by rw [hσ8, hσ4]; exact (hF2.set (Or.inr (Or.inr rfl))).set (Or.inl rfl), hb2, fun y hy => by rw [(hP2.2.1 y hy).1]; exact hy, hVI.tree hI hp hk hc0 he0 c_27 hP2⟩) ⟨(Nat.le_of_ble_eq_true rfl), (Nat.le_of_ble_eq_true rfl)⟩ dX10_follow_110
    · refine lv_iconst (v := (nI 1)) F.x F.cd dX10_follow_101 (by decide) ?_
      refine lv_goto (tgt := 106) F.x F.cd dX10_follow_102 (by decide) ?_
      refine W.eq (g2 := F0 m_ 106 ls (.int (nI (if num2 t < low2 (oth (pA v k) (pB v k) t) then 1 else 0)) :: .int (nI br2) :: .ref h :: [])) (by rw [if_pos (by omega)]) ?_
      refine a_iadd (v := (nI (br2 + (if num2 t < low2 (oth (pA v k) (pB v k) t) then 1 else 0)))) F (nI_add _ _) dX10_follow_106 ?_
      refine s_put F hW (ci := 13) (C := RX10) (T := TX10) (N := 5) (v := .int (nI (br2 + (if num2 t < low2 (oth (pA v k) (pB v k) t) then 1 else 0)))) (ty := .int) (f5) (bh) rfl in_X10 tyX10_ok nmX10 3 (by decide) q720 (fun _ h9 => h9) rfl (by decide +kernel) rfl rfl (Nat.le_of_ble_eq_true rfl) dX10_follow_107 (fun H locs hW => ?_)
      obtain ⟨σ12, hσ12⟩ : ∃ z, z = sset σ4 h (.inr (13, [.ref na, .ref la, .int (nI nx2), .int (nI (br2 + (if num2 t < low2 (oth (pA v k) (pB v k) t) then 1 else 0))), .ref (L 0)])) := ⟨_, rfl⟩
      have hW : Hl g σ12 H locs := by rw [hσ12]; exact hW
      have w12 : σ12 h = some (.inr (13, [.ref na, .ref la, .int (nI nx2), .int (nI (br2 + (if num2 t < low2 (oth (pA v k) (pB v k) t) then 1 else 0))), .ref (L 0)])) := by rw [hσ12]; exact sset_eq
      have f13 : σ12 na = some (eI g 0 (v 0) (fun x9 => nI (num2 x9))) := by rw [hσ12, sset_ne (sto_ne f5 f6 (by simp))]; exact f6
      have f14 : σ12 la = some (eI g 0 (v 0) (fun x9 => nI ((va_up low2 t (min (low2 t) (low2 (oth (pA v k) (pB v k) t)))) x9))) := by rw [hσ12, sset_ne (sto_ne f5 w4 (by simp))]; exact w4
      subst hQ
      exact s_retv F hW (⟨rfl, _, _, _, _, w12, f13, f14, by rw [hσ12, hσ4]; exact (hF2.set (Or.inr (Or.inr rfl))).set (Or.inl rfl), hb2, fun y hy => by rw [(hP2.2.1 y hy).1]; exact hy, hVI.tree hI hp hk hc0 he0 c_27 hP2⟩) ⟨(Nat.le_of_ble_eq_true rfl), (Nat.le_of_ble_eq_true rfl)⟩ dX10_follow_110
  · refine lv_aload_n F.x F.cd dX10_follow_30 rfl (lv_at hl 1 rfl) ?_
    refine s_get F hW (ci := 13) (C := RX10) (T := TX10) (N := 5) (v := .ref la) (e0) rfl in_X10 1 (by decide) q718 (fun _ h9 => h9) rfl dX10_follow_31 ?_
    refine lv_iload_n F.x F.cd dX10_follow_34 rfl (lv_at hl 2 rfl) ?_
    refine lv_aload_n F.x F.cd dX10_follow_35 rfl (lv_at hl 1 rfl) ?_
    refine s_get F hW (ci := 13) (C := RX10) (T := TX10) (N := 5) (v := .ref la) (e0) rfl in_X10 1 (by decide) q718 (fun _ h9 => h9) rfl dX10_follow_36 ?_
    refine lv_iload_n F.x F.cd dX10_follow_39 rfl (lv_at hl 2 rfl) ?_
    refine n_iald (i := t) (n := v 0) (f := (fun x9 => nI (low1 x9))) (x := (nI (low1 t))) F hW (el) (by omega) (by omega) (rfl) dX10_follow_40 ?_
    refine lv_aload_n F.x F.cd dX10_follow_41 rfl (lv_at hl 1 rfl) ?_
    refine s_get F hW (ci := 13) (C := RX10) (T := TX10) (N := 5) (v := .ref na) (e0) rfl in_X10 0 (by decide) q716 (fun _ h9 => h9) rfl dX10_follow_42 ?_
    refine lv_iload_n F.x F.cd dX10_follow_45 rfl (lv_at hl 0 rfl) ?_
    refine n_iald (i := oth (pA v k) (pB v k) t) (n := v 0) (f := (fun x9 => nI (num1 x9))) (x := (nI (num1 (oth (pA v k) (pB v k) t)))) F hW (en) (hov) (by omega) (rfl) dX10_follow_46 ?_
    refine s_mmin (v := (nI (min (low1 t) (num1 (oth (pA v k) (pB v k) t))))) F q748 q453 q87 q454 hl.1 (Nat.le_of_ble_eq_true rfl) (Nat.le_of_ble_eq_true rfl) (Nat.le_of_ble_eq_true rfl) (Nat.le_of_ble_eq_true rfl) (nI_min (by omega) (by omega)) dX10_follow_47 ?_
    refine n_iastN (i := t) F hW (el) (bl) (by omega) (by omega) dX10_follow_50 (fun H locs hW => ?_)
    obtain ⟨σ15, hσ15⟩ : ∃ z, z = sset σ la (eI g 0 (v 0) (fun x9 => nI ((va_up low1 t (min (low1 t) (num1 (oth (pA v k) (pB v k) t)))) x9))) := ⟨_, rfl⟩
    have hW : Hl g σ15 H locs := by rw [hσ15]; exact hW
    have w15 : σ15 la = some (eI g 0 (v 0) (fun x9 => nI ((va_up low1 t (min (low1 t) (num1 (oth (pA v k) (pB v k) t)))) x9))) := by rw [hσ15]; exact sset_eq
    have f16 : σ15 (L 0) = some (.inr (1, [.ref (L 1), .ref (L 2), .int (nI (v 2)), .int (nI (v 3)), .int (nI (v 4)), .int (nI (v 5))])) := by rw [hσ15, sset_ne (sto_ne el hWk.1 (by simp))]; exact hWk.1
    have f17 : σ15 (L 1) = some (.inr (2, [.int mcT, .ref (L 3), .int (nI (v 0))])) := by rw [hσ15, sset_ne (sto_ne el eT (by simp))]; exact eT
    have j18 := IsList.setI (e := eI g 0 (v 0) (fun x9 => nI ((va_up low1 t (min (low1 t) (num1 (oth (pA v k) (pB v k) t)))) x9))) (hT) (el)
    rw [← hσ15] at j18
    have f19 : σ15 (L 2) = some (.inr (2, [.int mcP, .ref (L 4), .int (nI (v 1))])) := by rw [hσ15, sset_ne (sto_ne el eP (by simp))]; exact eP
    have j20 := IsList.setI (e := eI g 0 (v 0) (fun x9 => nI ((va_up low1 t (min (low1 t) (num1 (oth (pA v k) (pB v k) t)))) x9))) (hP) (el)
    rw [← hσ15] at j20
    have f21 : σ15 h = some (.inr (13, [.ref na, .ref la, .int (nI nx1), .int (nI br1), .ref (L 0)])) := by rw [hσ15, sset_ne (sto_ne el e0 (by simp))]; exact e0
    have f22 : σ15 (L (100 + k)) = some (.inr (9, [.int (nI (pA v k)), .int (nI (pB v k)), .int (nI (pM v k)), .int (nI (pV v k)), .int (nI (pR v k)), .int (nI (pD v k)), .int (nI (pL v k))])) := by rw [hσ15, sset_ne (sto_ne el ((hWk.2.2.2.2.2.1 k (by omega)).1) (by simp))]; exact (hWk.2.2.2.2.2.1 k (by omega)).1
    have f23 : σ15 na = some (eI g 0 (v 0) (fun x9 => nI (num1 x9))) := by rw [hσ15, sset_ne (hnl)]; exact en
    refine lv_goto (tgt := 110) F.x F.cd dX10_follow_51 (by decide) ?_
    subst hQ
    exact s_retv F hW (⟨rfl, _, _, _, _, f21, f23, w15, by rw [hσ15]; exact Fn.refl.set (Or.inr (Or.inr rfl)), hnx, fun y hy => hy, hVI.back hI hp hk hc0 he0 (by omega)⟩) ⟨(Nat.le_of_ble_eq_true rfl), (Nat.le_of_ble_eq_true rfl)⟩ dX10_follow_110
set_option maxHeartbeats 4000000 in
theorem k_X10_visit_7 (g : Gh) (l : Launch) (σ : Sto) (L v : Nat → Nat) (h na la t nx br : Nat) (c : Int32) (num low : Nat → Nat) (hWk : IsWorks g σ L v) (hI : Inv v) (e0 : σ h = some (.inr (13, [.ref na, .ref la, .int (nI nx), .int (nI br), .ref (L 0)]))) (en : σ na = some (eI g 0 (v 0) (fun x9 => nI (num x9)))) (el : σ la = some (eI g 0 (v 0) (fun x9 => nI (low x9)))) (bh : gB g ≤ h) (bn : gB g ≤ na) (bl : gB g ≤ la) (hnl : na ≠ la) (hp : VPre v num nx t c) (hun : unvN (fun y => decide (0 < num y)) 8 ≤ 7) (hnx : nx + unvN (fun y => decide (0 < num y)) 8 ≤ 9) : Ct g l yX10_visit cX10_visit 4 none ({ frames := 16, cells := 0, slots := 0, locals := 363 } : Room) [.ref h, .int (nI t), .int c] σ (fun r σ' => r = none ∧ ∃ (num' low' : Nat → Nat) (nx' br' : Nat), σ' h = some (.inr (13, [.ref na, .ref la, .int (nI nx'), .int (nI br'), .ref (L 0)])) ∧ σ' na = some (eI g 0 (v 0) (fun x9 => nI (num' x9))) ∧ σ' la = some (eI g 0 (v 0) (fun x9 => nI (low' x9))) ∧ Fn σ σ' h na la ∧ nx' + unvN (fun y => decide (0 < num' y)) 8 ≤ 9 ∧ VP v c num low nx br t num' low' nx' br') (nox) := by
  refine Ct.body (by decide) (Nat.le_of_ble_eq_true rfl) ?_
  intro p_ e_ s_ m_ args_ below_ meth_ c_ ls H locs Q F hW hl hQ
  have hl : lv_has ls 4 [(0, .ref h), (1, .int (nI t)), (2, .int c)] := hl
  have hT := hWk.2.2.1
  have hP := hWk.2.2.2.1
  obtain ⟨mcT, nT, fT, eT, bT, -⟩ := id hT
  obtain ⟨mcP, nP, fP, eP, bP, -⟩ := id hP
  have hv0 := hI.1
  have hv1 := hI.2.1
  have hlt9 := unvN_lt (R := fun y => decide (0 < num y)) (R' := fun y => decide (0 < va_up num t nx y)) (fun y hy => by unfold va_up; split; exact decide_eq_true hp.2.2.1; exact hy) (t := t) (decide_eq_false (by rw [hp.1]; decide)) (decide_eq_true (by rw [va_up_self]; exact hp.2.2.1)) 8 (Nat.lt_of_lt_of_le hp.2.1 hI.1)
  have hpv := hp.2.1
  refine lv_aload_n F.x F.cd dX10_visit_0 rfl (lv_at hl 0 rfl) ?_
  refine s_get F hW (ci := 13) (C := RX10) (T := TX10) (N := 5) (v := .ref na) (e0) rfl in_X10 0 (by decide) q716 (fun _ h9 => h9) rfl dX10_visit_1 ?_
  refine lv_iload_n F.x F.cd dX10_visit_4 rfl (lv_at hl 1 rfl) ?_
  refine lv_aload_n F.x F.cd dX10_visit_5 rfl (lv_at hl 0 rfl) ?_
  refine s_get F hW (ci := 13) (C := RX10) (T := TX10) (N := 5) (v := .int (nI nx)) (e0) rfl in_X10 2 (by decide) q719 (fun _ h9 => h9) rfl dX10_visit_6 ?_
  refine n_iastN (i := t) F hW (en) (bn) (hp.2.1) (by omega) dX10_visit_9 (fun H locs hW => ?_)
  obtain ⟨σ1, hσ1⟩ : ∃ z, z = sset σ na (eI g 0 (v 0) (fun x9 => nI ((va_up num t nx) x9))) := ⟨_, rfl⟩
  have hW : Hl g σ1 H locs := by rw [hσ1]; exact hW
  have w1 : σ1 na = some (eI g 0 (v 0) (fun x9 => nI ((va_up num t nx) x9))) := by rw [hσ1]; exact sset_eq
  have f2 : σ1 (L 0) = some (.inr (1, [.ref (L 1), .ref (L 2), .int (nI (v 2)), .int (nI (v 3)), .int (nI (v 4)), .int (nI (v 5))])) := by rw [hσ1, sset_ne (sto_ne en hWk.1 (by simp))]; exact hWk.1
  have f3 : σ1 (L 1) = some (.inr (2, [.int mcT, .ref (L 3), .int (nI (v 0))])) := by rw [hσ1, sset_ne (sto_ne en eT (by simp))]; exact eT
  have j4 := IsList.setI (e := eI g 0 (v 0) (fun x9 => nI ((va_up num t nx) x9))) (hT) (en)
  rw [← hσ1] at j4
  have f5 : σ1 (L 2) = some (.inr (2, [.int mcP, .ref (L 4), .int (nI (v 1))])) := by rw [hσ1, sset_ne (sto_ne en eP (by simp))]; exact eP
  have j6 := IsList.setI (e := eI g 0 (v 0) (fun x9 => nI ((va_up num t nx) x9))) (hP) (en)
  rw [← hσ1] at j6
  have f7 : σ1 h = some (.inr (13, [.ref na, .ref la, .int (nI nx), .int (nI br), .ref (L 0)])) := by rw [hσ1, sset_ne (sto_ne en e0 (by simp))]; exact e0
  have f8 : σ1 la = some (eI g 0 (v 0) (fun x9 => nI (low x9))) := by rw [hσ1, sset_ne (Ne.symm hnl)]; exact el
  refine lv_aload_n F.x F.cd dX10_visit_10 rfl (lv_at hl 0 rfl) ?_
  refine s_get F hW (ci := 13) (C := RX10) (T := TX10) (N := 5) (v := .ref la) (f7) rfl in_X10 1 (by decide) q718 (fun _ h9 => h9) rfl dX10_visit_11 ?_
  refine lv_iload_n F.x F.cd dX10_visit_14 rfl (lv_at hl 1 rfl) ?_
  refine lv_aload_n F.x F.cd dX10_visit_15 rfl (lv_at hl 0 rfl) ?_
  refine s_get F hW (ci := 13) (C := RX10) (T := TX10) (N := 5) (v := .int (nI nx)) (f7) rfl in_X10 2 (by decide) q719 (fun _ h9 => h9) rfl dX10_visit_16 ?_
  refine n_iastN (i := t) F hW (f8) (bl) (hp.2.1) (by omega) dX10_visit_19 (fun H locs hW => ?_)
  obtain ⟨σ9, hσ9⟩ : ∃ z, z = sset σ1 la (eI g 0 (v 0) (fun x9 => nI ((va_up low t nx) x9))) := ⟨_, rfl⟩
  have hW : Hl g σ9 H locs := by rw [hσ9]; exact hW
  have w9 : σ9 la = some (eI g 0 (v 0) (fun x9 => nI ((va_up low t nx) x9))) := by rw [hσ9]; exact sset_eq
  have f10 : σ9 (L 0) = some (.inr (1, [.ref (L 1), .ref (L 2), .int (nI (v 2)), .int (nI (v 3)), .int (nI (v 4)), .int (nI (v 5))])) := by rw [hσ9, sset_ne (sto_ne f8 f2 (by simp))]; exact f2
  have f11 : σ9 (L 1) = some (.inr (2, [.int mcT, .ref (L 3), .int (nI (v 0))])) := by rw [hσ9, sset_ne (sto_ne f8 f3 (by simp))]; exact f3
  have j12 := IsList.setI (e := eI g 0 (v 0) (fun x9 => nI ((va_up low t nx) x9))) (j4) (f8)
  rw [← hσ9] at j12
  have f13 : σ9 (L 2) = some (.inr (2, [.int mcP, .ref (L 4), .int (nI (v 1))])) := by rw [hσ9, sset_ne (sto_ne f8 f5 (by simp))]; exact f5
  have j14 := IsList.setI (e := eI g 0 (v 0) (fun x9 => nI ((va_up low t nx) x9))) (j6) (f8)
  rw [← hσ9] at j14
  have f15 : σ9 h = some (.inr (13, [.ref na, .ref la, .int (nI nx), .int (nI br), .ref (L 0)])) := by rw [hσ9, sset_ne (sto_ne f8 f7 (by simp))]; exact f7
  have f16 : σ9 na = some (eI g 0 (v 0) (fun x9 => nI ((va_up num t nx) x9))) := by rw [hσ9, sset_ne (hnl)]; exact w1
  refine lv_aload_n F.x F.cd dX10_visit_20 rfl (lv_at hl 0 rfl) ?_
  refine lv_dup F.x F.cd dX10_visit_21 rfl ?_
  refine s_get F hW (ci := 13) (C := RX10) (T := TX10) (N := 5) (v := .int (nI nx)) (f15) rfl in_X10 2 (by decide) q719 (fun _ h9 => h9) rfl dX10_visit_22 ?_
  refine lv_iconst (v := (nI 1)) F.x F.cd dX10_visit_25 (by decide) ?_
  refine a_iadd (v := (nI (nx + 1))) F (nI_add _ _) dX10_visit_26 ?_
  refine s_put F hW (ci := 13) (C := RX10) (T := TX10) (N := 5) (v := .int (nI (nx + 1))) (ty := .int) (f15) (bh) rfl in_X10 tyX10_ok nmX10 2 (by decide) q719 (fun _ h9 => h9) rfl (by decide +kernel) rfl rfl (Nat.le_of_ble_eq_true rfl) dX10_visit_27 (fun H locs hW => ?_)
  obtain ⟨σ18, hσ18⟩ : ∃ z, z = sset σ9 h (.inr (13, [.ref na, .ref la, .int (nI (nx + 1)), .int (nI br), .ref (L 0)])) := ⟨_, rfl⟩
  have hW : Hl g σ18 H locs := by rw [hσ18]; exact hW
  have w18 : σ18 h = some (.inr (13, [.ref na, .ref la, .int (nI (nx + 1)), .int (nI br), .ref (L 0)])) := by rw [hσ18]; exact sset_eq
  have f19 : σ18 (L 0) = some (.inr (1, [.ref (L 1), .ref (L 2), .int (nI (v 2)), .int (nI (v 3)), .int (nI (v 4)), .int (nI (v 5))])) := by rw [hσ18, sset_ne (sto_ne f15 f10 (by simp))]; exact f10
  have f20 : σ18 (L 1) = some (.inr (2, [.int mcT, .ref (L 3), .int (nI (v 0))])) := by rw [hσ18, sset_ne (sto_ne f15 f11 (by simp))]; exact f11
  have j21 := IsList.setO (e := .inr (13, [.ref na, .ref la, .int (nI (nx + 1)), .int (nI br), .ref (L 0)])) (j12) (f15) (by decide)
  rw [← hσ18] at j21
  have f22 : σ18 (L 2) = some (.inr (2, [.int mcP, .ref (L 4), .int (nI (v 1))])) := by rw [hσ18, sset_ne (sto_ne f15 f13 (by simp))]; exact f13
  have j23 := IsList.setO (e := .inr (13, [.ref na, .ref la, .int (nI (nx + 1)), .int (nI br), .ref (L 0)])) (j14) (f15) (by decide)
  rw [← hσ18] at j23
  have f24 : σ18 na = some (eI g 0 (v 0) (fun x9 => nI ((va_up num t nx) x9))) := by rw [hσ18, sset_ne (sto_ne f15 f16 (by simp))]; exact f16
  have f25 : σ18 la = some (eI g 0 (v 0) (fun x9 => nI ((va_up low t nx) x9))) := by rw [hσ18, sset_ne (sto_ne f15 w9 (by simp))]; exact w9
  refine lv_iconst (v := (nI 0)) F.x F.cd dX10_visit_30 (by decide) ?_
  refine lv_istore_n (lv' := [(3, .int (nI 0)), (0, .ref h), (1, .int (nI t)), (2, .int c)]) F.x F.cd dX10_visit_31 rfl hl (by decide) rfl (fun ls hl => ?_)
  have loop32 : ∀ (n : Nat) (k : Nat) (σk : Sto) (num1 low1 : Nat → Nat) (nx1 br1 : Nat), k + n = v 1 → σk h = some (.inr (13, [.ref na, .ref la, .int (nI nx1), .int (nI br1), .ref (L 0)])) → σk na = some (eI g 0 (v 0) (fun x9 => nI (num1 x9))) → σk la = some (eI g 0 (v 0) (fun x9 => nI (low1 x9))) → Fn σ σk h na la → nx1 + unvN (fun y => decide (0 < num1 y)) 8 ≤ 9 → unvN (fun y => decide (0 < num1 y)) 8 ≤ 6 → VI v c num low nx br t num1 low1 nx1 br1 k → ∀ (H : Heap) (locs : List Loc) (ls : Array Slot), Hl g σk H locs → lv_has ls 4 [(0, .ref h), (1, .int (nI t)), (2, .int c), (3, .int (nI k))] → W p_ l e_ ({ frames := 16, cells := 0, slots := 0, locals := 363 } : Room) s_ m_ args_ below_ meth_ c_ H locs 0 0 Q (F0 m_ 32 ls ([])) := by
    intro n
    induction n with
    | zero =>
      intro k σk num1 low1 nx1 br1 hkn e1 en1 el1 hFk hb1 hu1 hVI H locs ls hW hl
      have hWn := hWk.fn hFk e0 en el
      have hT_k := hWn.2.2.1
      have hP_k := hWn.2.2.2.1
      obtain ⟨mcT_k, nT_k, fT_k, eT_k, bT_k, -⟩ := id hT_k
      obtain ⟨mcP_k, nP_k, fP_k, eP_k, bP_k, -⟩ := id hP_k
      have hv0_k := hI.1
      have hv1_k := hI.2.1
      refine lv_iload_n F.x F.cd dX10_visit_32 rfl (lv_at hl 3 rfl) ?_
      refine lv_aload_n F.x F.cd dX10_visit_33 rfl (lv_at hl 0 rfl) ?_
      refine s_get F hW (ci := 13) (C := RX10) (T := TX10) (N := 5) (v := .ref (L 0)) (e1) rfl in_X10 4 (by decide) q722 (fun _ h9 => h9) rfl dX10_visit_34 ?_
      refine s_getN F hW (ci := 1) (C := RX2) (T := TX2) (N := 6) (v := .ref (L 2)) (hWn.1) rfl in_X2 1 (by decide) q164 (fun _ h9 => h9) rfl dX10_visit_37 ?_
      refine s_callF (As := []) (rest := [.int (nI k)]) (C := RJ2) (T := TJ2) (N := 3) (n := 0) F hW (k_J2_size g l σk _ _ _ _ hP_k) (eP_k) rfl (List.mem_of_getElem? (i := 0) rfl) q715 q272 q274 q72 q276 (by decide +kernel) rfl ⟨⟨Nat.le_of_ble_eq_true rfl, Nat.le_of_ble_eq_true rfl⟩, ⟨(Nat.le_of_ble_eq_true rfl), (Nat.le_of_ble_eq_true rfl)⟩⟩ (Nat.le_of_ble_eq_true rfl) hl.1 rfl dX10_visit_40 cX_no (fun r26 σ26 H locs hp26 hW => ?_)
      obtain ⟨rfl, hs26⟩ := hp26
      rw [hs26] at hW
      refine W.eq (g2 := F0 m_ 45 ls (.int (nI (v 1)) :: .int (nI k) :: [])) rfl ?_
      refine n_icmp_ge (a := k) (b := v 1) (tgt := 110) F (by omega) (by omega) dX10_visit_45 (by decide) (fun c_45 => ?_) (fun c_45 => ?_)
      · subst hQ
        exact s_retv F hW (⟨rfl, _, _, _, _, e1, en1, el1, hFk, hb1, VI.done hp (by rw [← show k = v 1 by omega]; exact hVI)⟩) ⟨(Nat.le_of_ble_eq_true rfl), (Nat.le_of_ble_eq_true rfl)⟩ dX10_visit_110
      · exact absurd c_45 (by omega)
    | succ n ih32 =>
      intro k σk num1 low1 nx1 br1 hkn e1 en1 el1 hFk hb1 hu1 hVI H locs ls hW hl
      have hWn := hWk.fn hFk e0 en el
      have hT_k := hWn.2.2.1
      have hP_k := hWn.2.2.2.1
      obtain ⟨mcT_k, nT_k, fT_k, eT_k, bT_k, -⟩ := id hT_k
      obtain ⟨mcP_k, nP_k, fP_k, eP_k, bP_k, -⟩ := id hP_k
      have hv0_k := hI.1
      have hv1_k := hI.2.1
      refine lv_iload_n F.x F.cd dX10_visit_32 rfl (lv_at hl 3 rfl) ?_
      refine lv_aload_n F.x F.cd dX10_visit_33 rfl (lv_at hl 0 rfl) ?_
      refine s_get F hW (ci := 13) (C := RX10) (T := TX10) (N := 5) (v := .ref (L 0)) (e1) rfl in_X10 4 (by decide) q722 (fun _ h9 => h9) rfl dX10_visit_34 ?_
      refine s_getN F hW (ci := 1) (C := RX2) (T := TX2) (N := 6) (v := .ref (L 2)) (hWn.1) rfl in_X2 1 (by decide) q164 (fun _ h9 => h9) rfl dX10_visit_37 ?_
      refine s_callF (As := []) (rest := [.int (nI k)]) (C := RJ2) (T := TJ2) (N := 3) (n := 0) F hW (k_J2_size g l σk _ _ _ _ hP_k) (eP_k) rfl (List.mem_of_getElem? (i := 0) rfl) q715 q272 q274 q72 q276 (by decide +kernel) rfl ⟨⟨Nat.le_of_ble_eq_true rfl, Nat.le_of_ble_eq_true rfl⟩, ⟨(Nat.le_of_ble_eq_true rfl), (Nat.le_of_ble_eq_true rfl)⟩⟩ (Nat.le_of_ble_eq_true rfl) hl.1 rfl dX10_visit_40 cX_no (fun r27 σ27 H locs hp27 hW => ?_)
      obtain ⟨rfl, hs27⟩ := hp27
      rw [hs27] at hW
      refine W.eq (g2 := F0 m_ 45 ls (.int (nI (v 1)) :: .int (nI k) :: [])) rfl ?_
      refine n_icmp_ge (a := k) (b := v 1) (tgt := 110) F (by omega) (by omega) dX10_visit_45 (by decide) (fun c_45 => ?_) (fun c_45 => ?_)
      · exact absurd c_45 (by omega)
      · have hpq := hI.pp (q := k) (by omega)
        refine lv_iload_n F.x F.cd dX10_visit_48 rfl (lv_at hl 3 rfl) ?_
        refine lv_iload_n F.x F.cd dX10_visit_49 rfl (lv_at hl 2 rfl) ?_
        refine lv_icmp_eq (x := (nI k)) (y := c) (tgt := 104) F.x F.cd dX10_visit_50 (by decide) (fun c_50 => ?_) (fun c_50 => ?_)
        · refine lv_iinc (k := 3) (v := (nI (k + 1))) (lv' := [(3, .int (nI (k + 1))), (0, .ref h), (1, .int (nI t)), (2, .int c)]) F.x F.cd dX10_visit_104 hl rfl (inc_nI k 1) (by decide) rfl (fun ls hl => ?_)
          refine lv_goto (tgt := 32) F.x F.cd dX10_visit_107 (by decide) ?_
          exact ih32 (k + 1) σk num1 low1 nx1 br1 (by omega) (e1) (en1) (el1) (hFk) (hb1) (hu1) (hVI.skip (Or.inl c_50)) H locs ls hW (lv_sub hl [1, 2, 3, 0] rfl)
        · refine lv_aload_n F.x F.cd dX10_visit_53 rfl (lv_at hl 0 rfl) ?_
          refine s_get F hW (ci := 13) (C := RX10) (T := TX10) (N := 5) (v := .ref (L 0)) (e1) rfl in_X10 4 (by decide) q722 (fun _ h9 => h9) rfl dX10_visit_54 ?_
          refine s_getN F hW (ci := 1) (C := RX2) (T := TX2) (N := 6) (v := .ref (L 2)) (hWn.1) rfl in_X2 1 (by decide) q164 (fun _ h9 => h9) rfl dX10_visit_57 ?_
          refine lv_iload_n F.x F.cd dX10_visit_60 rfl (lv_at hl 3 rfl) ?_
          refine s_callF (As := [.int (nI k)]) (rest := []) (C := RJ2) (T := TJ2) (N := 3) (n := 1) F hW (k_J2_get g l σk _ _ _ _ k hP_k (by omega)) (eP_k) rfl (List.mem_of_getElem? (i := 1) rfl) q739 q328 q330 q72 q332 (by decide +kernel) rfl ⟨⟨Nat.le_of_ble_eq_true rfl, Nat.le_of_ble_eq_true rfl⟩, ⟨(Nat.le_of_ble_eq_true rfl), (Nat.le_of_ble_eq_true rfl)⟩⟩ (Nat.le_of_ble_eq_true rfl) hl.1 rfl dX10_visit_61 cX_no (fun r28 σ28 H locs hp28 hW => ?_)
          obtain ⟨rfl, hs28⟩ := hp28
          rw [hs28] at hW
          refine W.eq (g2 := F0 m_ 66 ls (.ref (L (100 + k)) :: [])) rfl ?_
          refine s_cast_ F hW (C := RX5) (T := TX5) (N := 7) ((hWn.2.2.2.2.2.1 k (by omega)).1) rfl q740 dX10_visit_66 ?_
          refine s_callV (As := []) (rest := []) (C := RX5) (T := TX5) (N := 7) (n := 0) F hW (k_X5_isOpen g l σk (L (100 + k)) (pA v k) (pB v k) (pM v k) (pV v k) (pR v k) (pD v k) (pL v k) ((hWn.2.2.2.2.2.1 k (by omega)).1) (by omega) (by omega)) ((hWn.2.2.2.2.2.1 k (by omega)).1) rfl q741 q672 q673 q96 q674 rfl (by decide +kernel) rfl ⟨⟨Nat.le_of_ble_eq_true rfl, Nat.le_of_ble_eq_true rfl⟩, ⟨(Nat.le_of_ble_eq_true rfl), (Nat.le_of_ble_eq_true rfl)⟩⟩ (Nat.le_of_ble_eq_true rfl) hl.1 rfl dX10_visit_69 cX_no (fun r29 σ29 H locs hp29 hW => ?_)
          obtain ⟨rfl, hs29⟩ := hp29
          rw [hs29] at hW
          refine W.eq (g2 := F0 m_ 72 ls (.int (bI (opn (pV v k) (pD v k))) :: [])) rfl ?_
          refine b_if_eq (b := (opn (pV v k) (pD v k))) (tgt := 104) F dX10_visit_72 (by decide) (fun c_72 => ?_) (fun c_72 => ?_)
          · refine lv_iinc (k := 3) (v := (nI (k + 1))) (lv' := [(3, .int (nI (k + 1))), (0, .ref h), (1, .int (nI t)), (2, .int c)]) F.x F.cd dX10_visit_104 hl rfl (inc_nI k 1) (by decide) rfl (fun ls hl => ?_)
            refine lv_goto (tgt := 32) F.x F.cd dX10_visit_107 (by decide) ?_
            exact ih32 (k + 1) σk num1 low1 nx1 br1 (by omega) (e1) (en1) (el1) (hFk) (hb1) (hu1) (hVI.skip (Or.inr (fun z hz => by rw [hz.1] at c_72; cases c_72))) H locs ls hW (lv_sub hl [1, 2, 3, 0] rfl)
          · refine lv_aload_n F.x F.cd dX10_visit_75 rfl (lv_at hl 0 rfl) ?_
            refine s_get F hW (ci := 13) (C := RX10) (T := TX10) (N := 5) (v := .ref (L 0)) (e1) rfl in_X10 4 (by decide) q722 (fun _ h9 => h9) rfl dX10_visit_76 ?_
            refine s_getN F hW (ci := 1) (C := RX2) (T := TX2) (N := 6) (v := .ref (L 2)) (hWn.1) rfl in_X2 1 (by decide) q164 (fun _ h9 => h9) rfl dX10_visit_79 ?_
            refine lv_iload_n F.x F.cd dX10_visit_82 rfl (lv_at hl 3 rfl) ?_
            refine s_callF (As := [.int (nI k)]) (rest := []) (C := RJ2) (T := TJ2) (N := 3) (n := 1) F hW (k_J2_get g l σk _ _ _ _ k hP_k (by omega)) (eP_k) rfl (List.mem_of_getElem? (i := 1) rfl) q739 q328 q330 q72 q332 (by decide +kernel) rfl ⟨⟨Nat.le_of_ble_eq_true rfl, Nat.le_of_ble_eq_true rfl⟩, ⟨(Nat.le_of_ble_eq_true rfl), (Nat.le_of_ble_eq_true rfl)⟩⟩ (Nat.le_of_ble_eq_true rfl) hl.1 rfl dX10_visit_83 cX_no (fun r30 σ30 H locs hp30 hW => ?_)
            obtain ⟨rfl, hs30⟩ := hp30
            rw [hs30] at hW
            refine W.eq (g2 := F0 m_ 88 ls (.ref (L (100 + k)) :: [])) rfl ?_
            refine s_cast_ F hW (C := RX5) (T := TX5) (N := 7) ((hWn.2.2.2.2.2.1 k (by omega)).1) rfl q740 dX10_visit_88 ?_
            refine lv_iload_n F.x F.cd dX10_visit_91 rfl (lv_at hl 1 rfl) ?_
            refine s_callV (As := [.int (nI t)]) (rest := []) (C := RX5) (T := TX5) (N := 7) (n := 1) F hW (k_X5_touches g l σk (L (100 + k)) (pA v k) (pB v k) (pM v k) (pV v k) (pR v k) (pD v k) (pL v k) t ((hWn.2.2.2.2.2.1 k (by omega)).1) (by omega) (by omega) (by omega)) ((hWn.2.2.2.2.2.1 k (by omega)).1) rfl q742 q676 q677 q96 q678 rfl (by decide +kernel) rfl ⟨⟨Nat.le_of_ble_eq_true rfl, Nat.le_of_ble_eq_true rfl⟩, ⟨(Nat.le_of_ble_eq_true rfl), (Nat.le_of_ble_eq_true rfl)⟩⟩ (Nat.le_of_ble_eq_true rfl) hl.1 rfl dX10_visit_92 cX_no (fun r31 σ31 H locs hp31 hW => ?_)
            obtain ⟨rfl, hs31⟩ := hp31
            rw [hs31] at hW
            refine W.eq (g2 := F0 m_ 95 ls (.int (bI (tch (pA v k) (pB v k) t)) :: [])) rfl ?_
            refine b_if_eq (b := (tch (pA v k) (pB v k) t)) (tgt := 104) F dX10_visit_95 (by decide) (fun c_95 => ?_) (fun c_95 => ?_)
            · refine lv_iinc (k := 3) (v := (nI (k + 1))) (lv' := [(3, .int (nI (k + 1))), (0, .ref h), (1, .int (nI t)), (2, .int c)]) F.x F.cd dX10_visit_104 hl rfl (inc_nI k 1) (by decide) rfl (fun ls hl => ?_)
              refine lv_goto (tgt := 32) F.x F.cd dX10_visit_107 (by decide) ?_
              exact ih32 (k + 1) σk num1 low1 nx1 br1 (by omega) (e1) (en1) (el1) (hFk) (hb1) (hu1) (hVI.skip (Or.inr (fun z hz => by have h9 := hz.2; rw [show tch (pA v k) (pB v k) t = true from decide_eq_true (h9.elim (fun h => Or.inl h.1) (fun h => Or.inr h.1))] at c_95; cases c_95))) H locs ls hW (lv_sub hl [1, 2, 3, 0] rfl)
            · refine lv_aload_n F.x F.cd dX10_visit_98 rfl (lv_at hl 0 rfl) ?_
              refine lv_iload_n F.x F.cd dX10_visit_99 rfl (lv_at hl 1 rfl) ?_
              refine lv_iload_n F.x F.cd dX10_visit_100 rfl (lv_at hl 3 rfl) ?_
              refine s_callV (As := [.int (nI t), .int (nI k)]) (rest := []) (C := RX10) (T := TX10) (N := 5) (n := 2) F hW (k_X10_follow_7 g l σk L v h na la t nx br c num low num1 low1 nx1 br1 k hWn hI e1 en1 el1 bh bn bl hnl hp hVI (by omega) c_50 ⟨c_72, tch_oth c_95 (hI.pp (show k < v 1 by omega)).2.2.1⟩ hu1 hb1) (e1) rfl q743 q745 qs4 q108 q746 rfl (by decide +kernel) rfl ⟨⟨Nat.le_of_ble_eq_true rfl, Nat.le_of_ble_eq_true rfl⟩, ⟨(Nat.le_of_ble_eq_true rfl), (Nat.le_of_ble_eq_true rfl)⟩⟩ (Nat.le_of_ble_eq_true rfl) hl.1 rfl dX10_visit_101 cX_no (fun r32 σ32 H locs hp32 hW => ?_)
              obtain ⟨rfl, num2, low2, nx2, br2, e2, en2, el2, hF2, hb2, hm2, hVI2⟩ := hp32
              refine W.eq (g2 := F0 m_ 104 ls ([])) rfl ?_
              refine lv_iinc (k := 3) (v := (nI (k + 1))) (lv' := [(3, .int (nI (k + 1))), (0, .ref h), (1, .int (nI t)), (2, .int c)]) F.x F.cd dX10_visit_104 hl rfl (inc_nI k 1) (by decide) rfl (fun ls hl => ?_)
              refine lv_goto (tgt := 32) F.x F.cd dX10_visit_107 (by decide) ?_
              exact ih32 (k + 1) σ32 num2 low2 nx2 br2 (by omega) (e2) (en2) (el2) (hFk.trans hF2) (hb2) (Nat.le_trans (unvN_le (fun y hy => decide_eq_true (hm2 y (of_decide_eq_true hy))) 8) hu1) (hVI2) H locs ls hW (lv_sub hl [1, 2, 3, 0] rfl)
  exact loop32 (v 1) 0 _ _ _ _ _ (by omega) (w18) (f24) (f25) (by rw [hσ18, hσ9, hσ1]; exact ((Fn.refl.set (Or.inr (Or.inl rfl))).set (Or.inr (Or.inr rfl))).set (Or.inl rfl)) (by have h9 := hlt9; omega) (by have h9 := hlt9; omega) (VI.start hI hp) H locs ls hW (lv_sub hl [1, 2, 3, 0] rfl)
set_option maxHeartbeats 4000000 in
theorem k_X10_follow_8 (g : Gh) (l : Launch) (σ : Sto) (L v : Nat → Nat) (h na la t nx br : Nat) (c : Int32) (num low : Nat → Nat) (num1 low1 : Nat → Nat) (nx1 br1 k : Nat) (hWk : IsWorks g σ L v) (hI : Inv v) (e0 : σ h = some (.inr (13, [.ref na, .ref la, .int (nI nx1), .int (nI br1), .ref (L 0)]))) (en : σ na = some (eI g 0 (v 0) (fun x9 => nI (num1 x9)))) (el : σ la = some (eI g 0 (v 0) (fun x9 => nI (low1 x9)))) (bh : gB g ≤ h) (bn : gB g ≤ na) (bl : gB g ≤ la) (hnl : na ≠ la) (hp : VPre v num nx t c) (hVI : VI v c num low nx br t num1 low1 nx1 br1 k) (hk : k < v 1) (hc0 : nI k ≠ c) (he0 : edg v k t (oth (pA v k) (pB v k) t)) (hun : unvN (fun y => decide (0 < num1 y)) 8 ≤ 7) (hnx : nx1 + unvN (fun y => decide (0 < num1 y)) 8 ≤ 9) : Ct g l yX10_follow cX10_follow 4 none ({ frames := 17, cells := 0, slots := 0, locals := 386 } : Room) [.ref h, .int (nI t), .int (nI k)] σ (fun r σ' => r = none ∧ ∃ (num' low' : Nat → Nat) (nx' br' : Nat), σ' h = some (.inr (13, [.ref na, .ref la, .int (nI nx'), .int (nI br'), .ref (L 0)])) ∧ σ' na = some (eI g 0 (v 0) (fun x9 => nI (num' x9))) ∧ σ' la = some (eI g 0 (v 0) (fun x9 => nI (low' x9))) ∧ Fn σ σ' h na la ∧ nx' + unvN (fun y => decide (0 < num' y)) 8 ≤ 9 ∧ (∀ y, 0 < num1 y → 0 < num' y) ∧ VI v c num low nx br t num' low' nx' br' (k + 1)) (nox) := by
  refine Ct.body (by decide) (Nat.le_of_ble_eq_true rfl) ?_
  intro p_ e_ s_ m_ args_ below_ meth_ c_ ls H locs Q F hW hl hQ
  have hl : lv_has ls 4 [(0, .ref h), (1, .int (nI t)), (2, .int (nI k))] := hl
  have hT := hWk.2.2.1
  have hP := hWk.2.2.2.1
  obtain ⟨mcT, nT, fT, eT, bT, -⟩ := id hT
  obtain ⟨mcP, nP, fP, eP, bP, -⟩ := id hP
  have hv0 := hI.1
  have hv1 := hI.2.1
  have hpq := hI.pp hk
  have htv := hp.2.1
  have hov := oth_lt (t := t) hpq.1 hpq.2.1
  have hnb := fun y => hVI.2.2.2.1.2 y
  have hno := hnb (oth (pA v k) (pB v k) t)
  have hlt := hVI.2.2.2.2.2.2.2.1.1
  have hnn := hVI.2.2.2.1.1
  refine lv_aload_n F.x F.cd dX10_follow_0 rfl (lv_at hl 0 rfl) ?_
  refine s_get F hW (ci := 13) (C := RX10) (T := TX10) (N := 5) (v := .ref (L 0)) (e0) rfl in_X10 4 (by decide) q722 (fun _ h9 => h9) rfl dX10_follow_1 ?_
  refine s_getN F hW (ci := 1) (C := RX2) (T := TX2) (N := 6) (v := .ref (L 2)) (hWk.1) rfl in_X2 1 (by decide) q164 (fun _ h9 => h9) rfl dX10_follow_4 ?_
  refine lv_iload_n F.x F.cd dX10_follow_7 rfl (lv_at hl 2 rfl) ?_
  refine s_callF (As := [.int (nI k)]) (rest := []) (C := RJ2) (T := TJ2) (N := 3) (n := 1) F hW (k_J2_get g l σ _ _ _ _ k hP (by omega)) (eP) rfl (List.mem_of_getElem? (i := 1) rfl) q739 q328 q330 q72 q332 (by decide +kernel) rfl ⟨⟨Nat.le_of_ble_eq_true rfl, Nat.le_of_ble_eq_true rfl⟩, ⟨(Nat.le_of_ble_eq_true rfl), (Nat.le_of_ble_eq_true rfl)⟩⟩ (Nat.le_of_ble_eq_true rfl) hl.1 rfl dX10_follow_8 cX_no (fun r1 σ1 H locs hp1 hW => ?_)
  obtain ⟨rfl, hs1⟩ := hp1
  rw [hs1] at hW
  refine W.eq (g2 := F0 m_ 13 ls (.ref (L (100 + k)) :: [])) rfl ?_
  refine s_cast_ F hW (C := RX5) (T := TX5) (N := 7) ((hWk.2.2.2.2.2.1 k (by omega)).1) rfl q740 dX10_follow_13 ?_
  refine lv_iload_n F.x F.cd dX10_follow_16 rfl (lv_at hl 1 rfl) ?_
  refine s_callV (As := [.int (nI t)]) (rest := []) (C := RX5) (T := TX5) (N := 7) (n := 1) F hW (k_X5_otherEnd g l σ (L (100 + k)) (pA v k) (pB v k) (pM v k) (pV v k) (pR v k) (pD v k) (pL v k) t ((hWk.2.2.2.2.2.1 k (by omega)).1) (by omega) (by omega)) ((hWk.2.2.2.2.2.1 k (by omega)).1) rfl q747 q680 q681 q96 q682 rfl (by decide +kernel) rfl ⟨⟨Nat.le_of_ble_eq_true rfl, Nat.le_of_ble_eq_true rfl⟩, ⟨(Nat.le_of_ble_eq_true rfl), (Nat.le_of_ble_eq_true rfl)⟩⟩ (Nat.le_of_ble_eq_true rfl) hl.1 rfl dX10_follow_17 cX_no (fun r2 σ2 H locs hp2 hW => ?_)
  obtain ⟨rfl, hs2⟩ := hp2
  rw [hs2] at hW
  refine W.eq (g2 := F0 m_ 20 ls (.int (nI (oth (pA v k) (pB v k) t)) :: [])) rfl ?_
  refine lv_istore_n (lv' := [(3, .int (nI (oth (pA v k) (pB v k) t))), (0, .ref h), (1, .int (nI t)), (2, .int (nI k))]) F.x F.cd dX10_follow_20 rfl hl (by decide) rfl (fun ls hl => ?_)
  refine lv_aload_n F.x F.cd dX10_follow_21 rfl (lv_at hl 1 rfl) ?_
  refine s_get F hW (ci := 13) (C := RX10) (T := TX10) (N := 5) (v := .ref na) (e0) rfl in_X10 0 (by decide) q716 (fun _ h9 => h9) rfl dX10_follow_22 ?_
  refine lv_iload_n F.x F.cd dX10_follow_25 rfl (lv_at hl 0 rfl) ?_
  refine n_iald (i := oth (pA v k) (pB v k) t) (n := v 0) (f := (fun x9 => nI (num1 x9))) (x := (nI (num1 (oth (pA v k) (pB v k) t)))) F hW (en) (hov) (by omega) (rfl) dX10_follow_26 ?_
  refine n_if_le (a := num1 (oth (pA v k) (pB v k) t)) (tgt := 54) F (by omega) dX10_follow_27 (by decide) (fun c_27 => ?_) (fun c_27 => ?_)
  · refine lv_aload_n F.x F.cd dX10_follow_54 rfl (lv_at hl 1 rfl) ?_
    refine lv_iload_n F.x F.cd dX10_follow_55 rfl (lv_at hl 0 rfl) ?_
    refine lv_iload_n F.x F.cd dX10_follow_56 rfl (lv_at hl 3 rfl) ?_
    refine s_callV (As := [.int (nI (oth (pA v k) (pB v k) t)), .int (nI k)]) (rest := []) (C := RX10) (T := TX10) (N := 5) (n := 2) F hW (k_X10_visit_7 g l σ L v h na la (oth (pA v k) (pB v k) t) nx1 br1 (nI k) num1 low1 hWk hI e0 en el bh bn bl hnl (hVI.pre hI hp hk he0 c_27) (by omega) (by omega)) (e0) rfl q749 q735 q736 q108 q737 rfl (by decide +kernel) rfl ⟨⟨Nat.le_of_ble_eq_true rfl, Nat.le_of_ble_eq_true rfl⟩, ⟨(Nat.le_of_ble_eq_true rfl), (Nat.le_of_ble_eq_true rfl)⟩⟩ (Nat.le_of_ble_eq_true rfl) hl.1 rfl dX10_follow_57 cX_no (fun r3 σ3 H locs hp3 hW => ?_)
    obtain ⟨rfl, num2, low2, nx2, br2, e2, en2, el2, hF2, hb2, hP2⟩ := hp3
    refine W.eq (g2 := F0 m_ 60 ls ([])) rfl ?_
    have hlo2 := hP2.2.2.2.2.2.2.1.1
    have hlt2 := (hP2.2.1 t (by rw [hVI.1]; exact hp.2.2.1))
    have hnt2 := hP2.2.2.2.1.2 t
    have hl22 := hlt2.2
    rw [← hl22] at hlt
    refine lv_aload_n F.x F.cd dX10_follow_60 rfl (lv_at hl 1 rfl) ?_
    refine s_get F hW (ci := 13) (C := RX10) (T := TX10) (N := 5) (v := .ref la) (e2) rfl in_X10 1 (by decide) q718 (fun _ h9 => h9) rfl dX10_follow_61 ?_
    refine lv_iload_n F.x F.cd dX10_follow_64 rfl (lv_at hl 2 rfl) ?_
    refine lv_aload_n F.x F.cd dX10_follow_65 rfl (lv_at hl 1 rfl) ?_
    refine s_get F hW (ci := 13) (C := RX10) (T := TX10) (N := 5) (v := .ref la) (e2) rfl in_X10 1 (by decide) q718 (fun _ h9 => h9) rfl dX10_follow_66 ?_
    refine lv_iload_n F.x F.cd dX10_follow_69 rfl (lv_at hl 2 rfl) ?_
    refine n_iald (i := t) (n := v 0) (f := (fun x9 => nI (low2 x9))) (x := (nI (low2 t))) F hW (el2) (by omega) (by omega) (rfl) dX10_follow_70 ?_
    refine lv_aload_n F.x F.cd dX10_follow_71 rfl (lv_at hl 1 rfl) ?_
    refine s_get F hW (ci := 13) (C := RX10) (T := TX10) (N := 5) (v := .ref la) (e2) rfl in_X10 1 (by decide) q718 (fun _ h9 => h9) rfl dX10_follow_72 ?_
    refine lv_iload_n F.x F.cd dX10_follow_75 rfl (lv_at hl 0 rfl) ?_
    refine n_iald (i := oth (pA v k) (pB v k) t) (n := v 0) (f := (fun x9 => nI (low2 x9))) (x := (nI (low2 (oth (pA v k) (pB v k) t)))) F hW (el2) (by omega) (by omega) (rfl) dX10_follow_76 ?_
    refine s_mmin (v := (nI (min (low2 t) (low2 (oth (pA v k) (pB v k) t))))) F q748 q453 q87 q454 hl.1 (Nat.le_of_ble_eq_true rfl) (Nat.le_of_ble_eq_true rfl) (Nat.le_of_ble_eq_true rfl) (Nat.le_of_ble_eq_true rfl) (nI_min (by omega) (by omega)) dX10_follow_77 ?_
    refine n_iastN (i := t) F hW (el2) (bl) (by omega) (by omega) dX10_follow_80 (fun H locs hW => ?_)
    obtain ⟨σ4, hσ4⟩ : ∃ z, z = sset σ3 la (eI g 0 (v 0) (fun x9 => nI ((va_up low2 t (min (low2 t) (low2 (oth (pA v k) (pB v k) t)))) x9))) := ⟨_, rfl⟩
    have hW : Hl g σ4 H locs := by rw [hσ4]; exact hW
    have w4 : σ4 la = some (eI g 0 (v 0) (fun x9 => nI ((va_up low2 t (min (low2 t) (low2 (oth (pA v k) (pB v k) t)))) x9))) := by rw [hσ4]; exact sset_eq
    have f5 : σ4 h = some (.inr (13, [.ref na, .ref la, .int (nI nx2), .int (nI br2), .ref (L 0)])) := by rw [hσ4, sset_ne (sto_ne el2 e2 (by simp))]; exact e2
    have f6 : σ4 na = some (eI g 0 (v 0) (fun x9 => nI (num2 x9))) := by rw [hσ4, sset_ne (hnl)]; exact en2
    have hvo : (va_up low2 t (min (low2 t) (low2 (oth (pA v k) (pB v k) t)))) (oth (pA v k) (pB v k) t) = low2 (oth (pA v k) (pB v k) t) := va_up_ne _ _ (edg.ne hI hk he0).symm
    refine lv_aload_n F.x F.cd dX10_follow_81 rfl (lv_at hl 1 rfl) ?_
    refine lv_dup F.x F.cd dX10_follow_82 rfl ?_
    refine s_get F hW (ci := 13) (C := RX10) (T := TX10) (N := 5) (v := .int (nI br2)) (f5) rfl in_X10 3 (by decide) q720 (fun _ h9 => h9) rfl dX10_follow_83 ?_
    refine lv_aload_n F.x F.cd dX10_follow_86 rfl (lv_at hl 1 rfl) ?_
    refine s_get F hW (ci := 13) (C := RX10) (T := TX10) (N := 5) (v := .ref la) (f5) rfl in_X10 1 (by decide) q718 (fun _ h9 => h9) rfl dX10_follow_87 ?_
    refine lv_iload_n F.x F.cd dX10_follow_90 rfl (lv_at hl 0 rfl) ?_
    refine n_iald (i := oth (pA v k) (pB v k) t) (n := v 0) (f := (fun x9 => nI ((va_up low2 t (min (low2 t) (low2 (oth (pA v k) (pB v k) t)))) x9))) (x := (nI ((va_up low2 t (min (low2 t) (low2 (oth (pA v k) (pB v k) t)))) (oth (pA v k) (pB v k) t)))) F hW (w4) (by omega) (by omega) (rfl) dX10_follow_91 ?_
    refine lv_aload_n F.x F.cd dX10_follow_92 rfl (lv_at hl 1 rfl) ?_
    refine s_get F hW (ci := 13) (C := RX10) (T := TX10) (N := 5) (v := .ref na) (f5) rfl in_X10 0 (by decide) q716 (fun _ h9 => h9) rfl dX10_follow_93 ?_
    refine lv_iload_n F.x F.cd dX10_follow_96 rfl (lv_at hl 2 rfl) ?_
    refine n_iald (i := t) (n := v 0) (f := (fun x9 => nI (num2 x9))) (x := (nI (num2 t))) F hW (f6) (by omega) (by omega) (rfl) dX10_follow_97 ?_
    refine n_icmp_le (a := (va_up low2 t (min (low2 t) (low2 (oth (pA v k) (pB v k) t)))) (oth (pA v k) (pB v k) t)) (b := num2 t) (tgt := 105) F (by omega) (by omega) dX10_follow_98 (by decide) (fun c_98 => ?_) (fun c_98 => ?_)
    · refine lv_iconst (v := (nI 0)) F.x F.cd dX10_follow_105 (by decide) ?_
      refine W.eq (g2 := F0 m_ 106 ls (.int (nI (if num2 t < low2 (oth (pA v k) (pB v k) t) then 1 else 0)) :: .int (nI br2) :: .ref h :: [])) (by rw [if_neg (by omega)]) ?_
      refine a_iadd (v := (nI (br2 + (if num2 t < low2 (oth (pA v k) (pB v k) t) then 1 else 0)))) F (nI_add _ _) dX10_follow_106 ?_
      refine s_put F hW (ci := 13) (C := RX10) (T := TX10) (N := 5) (v := .int (nI (br2 + (if num2 t < low2 (oth (pA v k) (pB v k) t) then 1 else 0)))) (ty := .int) (f5) (bh) rfl in_X10 tyX10_ok nmX10 3 (by decide) q720 (fun _ h9 => h9) rfl (by decide +kernel) rfl rfl (Nat.le_of_ble_eq_true rfl) dX10_follow_107 (fun H locs hW => ?_)
      obtain ⟨σ8, hσ8⟩ : ∃ z, z = sset σ4 h (.inr (13, [.ref na, .ref la, .int (nI nx2), .int (nI (br2 + (if num2 t < low2 (oth (pA v k) (pB v k) t) then 1 else 0))), .ref (L 0)])) := ⟨_, rfl⟩
      have hW : Hl g σ8 H locs := by rw [hσ8]; exact hW
      have w8 : σ8 h = some (.inr (13, [.ref na, .ref la, .int (nI nx2), .int (nI (br2 + (if num2 t < low2 (oth (pA v k) (pB v k) t) then 1 else 0))), .ref (L 0)])) := by rw [hσ8]; exact sset_eq
      have f9 : σ8 na = some (eI g 0 (v 0) (fun x9 => nI (num2 x9))) := by rw [hσ8, sset_ne (sto_ne f5 f6 (by simp))]; exact f6
      have f10 : σ8 la = some (eI g 0 (v 0) (fun x9 => nI ((va_up low2 t (min (low2 t) (low2 (oth (pA v k) (pB v k) t)))) x9))) := by rw [hσ8, sset_ne (sto_ne f5 w4 (by simp))]; exact w4
      subst hQ
      exact s_retv F hW (⟨rfl, _, _, _, _, w8, f9, f10, by rw [hσ8, hσ4]; exact (hF2.set (Or.inr (Or.inr rfl))).set (Or.inl rfl), hb2, fun y hy => by rw [(hP2.2.1 y hy).1]; exact hy, hVI.tree hI hp hk hc0 he0 c_27 hP2⟩) ⟨(Nat.le_of_ble_eq_true rfl), (Nat.le_of_ble_eq_true rfl)⟩ dX10_follow_110
    · refine lv_iconst (v := (nI 1)) F.x F.cd dX10_follow_101 (by decide) ?_
      refine lv_goto (tgt := 106) F.x F.cd dX10_follow_102 (by decide) ?_
      refine W.eq (g2 := F0 m_ 106 ls (.int (nI (if num2 t < low2 (oth (pA v k) (pB v k) t) then 1 else 0)) :: .int (nI br2) :: .ref h :: [])) (by rw [if_pos (by omega)]) ?_
      refine a_iadd (v := (nI (br2 + (if num2 t < low2 (oth (pA v k) (pB v k) t) then 1 else 0)))) F (nI_add _ _) dX10_follow_106 ?_
      refine s_put F hW (ci := 13) (C := RX10) (T := TX10) (N := 5) (v := .int (nI (br2 + (if num2 t < low2 (oth (pA v k) (pB v k) t) then 1 else 0)))) (ty := .int) (f5) (bh) rfl in_X10 tyX10_ok nmX10 3 (by decide) q720 (fun _ h9 => h9) rfl (by decide +kernel) rfl rfl (Nat.le_of_ble_eq_true rfl) dX10_follow_107 (fun H locs hW => ?_)
      obtain ⟨σ12, hσ12⟩ : ∃ z, z = sset σ4 h (.inr (13, [.ref na, .ref la, .int (nI nx2), .int (nI (br2 + (if num2 t < low2 (oth (pA v k) (pB v k) t) then 1 else 0))), .ref (L 0)])) := ⟨_, rfl⟩
      have hW : Hl g σ12 H locs := by rw [hσ12]; exact hW
      have w12 : σ12 h = some (.inr (13, [.ref na, .ref la, .int (nI nx2), .int (nI (br2 + (if num2 t < low2 (oth (pA v k) (pB v k) t) then 1 else 0))), .ref (L 0)])) := by rw [hσ12]; exact sset_eq
      have f13 : σ12 na = some (eI g 0 (v 0) (fun x9 => nI (num2 x9))) := by rw [hσ12, sset_ne (sto_ne f5 f6 (by simp))]; exact f6
      have f14 : σ12 la = some (eI g 0 (v 0) (fun x9 => nI ((va_up low2 t (min (low2 t) (low2 (oth (pA v k) (pB v k) t)))) x9))) := by rw [hσ12, sset_ne (sto_ne f5 w4 (by simp))]; exact w4
      subst hQ
      exact s_retv F hW (⟨rfl, _, _, _, _, w12, f13, f14, by rw [hσ12, hσ4]; exact (hF2.set (Or.inr (Or.inr rfl))).set (Or.inl rfl), hb2, fun y hy => by rw [(hP2.2.1 y hy).1]; exact hy, hVI.tree hI hp hk hc0 he0 c_27 hP2⟩) ⟨(Nat.le_of_ble_eq_true rfl), (Nat.le_of_ble_eq_true rfl)⟩ dX10_follow_110
  · refine lv_aload_n F.x F.cd dX10_follow_30 rfl (lv_at hl 1 rfl) ?_
    refine s_get F hW (ci := 13) (C := RX10) (T := TX10) (N := 5) (v := .ref la) (e0) rfl in_X10 1 (by decide) q718 (fun _ h9 => h9) rfl dX10_follow_31 ?_
    refine lv_iload_n F.x F.cd dX10_follow_34 rfl (lv_at hl 2 rfl) ?_
    refine lv_aload_n F.x F.cd dX10_follow_35 rfl (lv_at hl 1 rfl) ?_
    refine s_get F hW (ci := 13) (C := RX10) (T := TX10) (N := 5) (v := .ref la) (e0) rfl in_X10 1 (by decide) q718 (fun _ h9 => h9) rfl dX10_follow_36 ?_
    refine lv_iload_n F.x F.cd dX10_follow_39 rfl (lv_at hl 2 rfl) ?_
    refine n_iald (i := t) (n := v 0) (f := (fun x9 => nI (low1 x9))) (x := (nI (low1 t))) F hW (el) (by omega) (by omega) (rfl) dX10_follow_40 ?_
    refine lv_aload_n F.x F.cd dX10_follow_41 rfl (lv_at hl 1 rfl) ?_
    refine s_get F hW (ci := 13) (C := RX10) (T := TX10) (N := 5) (v := .ref na) (e0) rfl in_X10 0 (by decide) q716 (fun _ h9 => h9) rfl dX10_follow_42 ?_
    refine lv_iload_n F.x F.cd dX10_follow_45 rfl (lv_at hl 0 rfl) ?_
    refine n_iald (i := oth (pA v k) (pB v k) t) (n := v 0) (f := (fun x9 => nI (num1 x9))) (x := (nI (num1 (oth (pA v k) (pB v k) t)))) F hW (en) (hov) (by omega) (rfl) dX10_follow_46 ?_
    refine s_mmin (v := (nI (min (low1 t) (num1 (oth (pA v k) (pB v k) t))))) F q748 q453 q87 q454 hl.1 (Nat.le_of_ble_eq_true rfl) (Nat.le_of_ble_eq_true rfl) (Nat.le_of_ble_eq_true rfl) (Nat.le_of_ble_eq_true rfl) (nI_min (by omega) (by omega)) dX10_follow_47 ?_
    refine n_iastN (i := t) F hW (el) (bl) (by omega) (by omega) dX10_follow_50 (fun H locs hW => ?_)
    obtain ⟨σ15, hσ15⟩ : ∃ z, z = sset σ la (eI g 0 (v 0) (fun x9 => nI ((va_up low1 t (min (low1 t) (num1 (oth (pA v k) (pB v k) t)))) x9))) := ⟨_, rfl⟩
    have hW : Hl g σ15 H locs := by rw [hσ15]; exact hW
    have w15 : σ15 la = some (eI g 0 (v 0) (fun x9 => nI ((va_up low1 t (min (low1 t) (num1 (oth (pA v k) (pB v k) t)))) x9))) := by rw [hσ15]; exact sset_eq
    have f16 : σ15 (L 0) = some (.inr (1, [.ref (L 1), .ref (L 2), .int (nI (v 2)), .int (nI (v 3)), .int (nI (v 4)), .int (nI (v 5))])) := by rw [hσ15, sset_ne (sto_ne el hWk.1 (by simp))]; exact hWk.1
    have f17 : σ15 (L 1) = some (.inr (2, [.int mcT, .ref (L 3), .int (nI (v 0))])) := by rw [hσ15, sset_ne (sto_ne el eT (by simp))]; exact eT
    have j18 := IsList.setI (e := eI g 0 (v 0) (fun x9 => nI ((va_up low1 t (min (low1 t) (num1 (oth (pA v k) (pB v k) t)))) x9))) (hT) (el)
    rw [← hσ15] at j18
    have f19 : σ15 (L 2) = some (.inr (2, [.int mcP, .ref (L 4), .int (nI (v 1))])) := by rw [hσ15, sset_ne (sto_ne el eP (by simp))]; exact eP
    have j20 := IsList.setI (e := eI g 0 (v 0) (fun x9 => nI ((va_up low1 t (min (low1 t) (num1 (oth (pA v k) (pB v k) t)))) x9))) (hP) (el)
    rw [← hσ15] at j20
    have f21 : σ15 h = some (.inr (13, [.ref na, .ref la, .int (nI nx1), .int (nI br1), .ref (L 0)])) := by rw [hσ15, sset_ne (sto_ne el e0 (by simp))]; exact e0
    have f22 : σ15 (L (100 + k)) = some (.inr (9, [.int (nI (pA v k)), .int (nI (pB v k)), .int (nI (pM v k)), .int (nI (pV v k)), .int (nI (pR v k)), .int (nI (pD v k)), .int (nI (pL v k))])) := by rw [hσ15, sset_ne (sto_ne el ((hWk.2.2.2.2.2.1 k (by omega)).1) (by simp))]; exact (hWk.2.2.2.2.2.1 k (by omega)).1
    have f23 : σ15 na = some (eI g 0 (v 0) (fun x9 => nI (num1 x9))) := by rw [hσ15, sset_ne (hnl)]; exact en
    refine lv_goto (tgt := 110) F.x F.cd dX10_follow_51 (by decide) ?_
    subst hQ
    exact s_retv F hW (⟨rfl, _, _, _, _, f21, f23, w15, by rw [hσ15]; exact Fn.refl.set (Or.inr (Or.inr rfl)), hnx, fun y hy => hy, hVI.back hI hp hk hc0 he0 (by omega)⟩) ⟨(Nat.le_of_ble_eq_true rfl), (Nat.le_of_ble_eq_true rfl)⟩ dX10_follow_110
set_option maxHeartbeats 4000000 in
theorem k_X10_visit_8 (g : Gh) (l : Launch) (σ : Sto) (L v : Nat → Nat) (h na la t nx br : Nat) (c : Int32) (num low : Nat → Nat) (hWk : IsWorks g σ L v) (hI : Inv v) (e0 : σ h = some (.inr (13, [.ref na, .ref la, .int (nI nx), .int (nI br), .ref (L 0)]))) (en : σ na = some (eI g 0 (v 0) (fun x9 => nI (num x9)))) (el : σ la = some (eI g 0 (v 0) (fun x9 => nI (low x9)))) (bh : gB g ≤ h) (bn : gB g ≤ na) (bl : gB g ≤ la) (hnl : na ≠ la) (hp : VPre v num nx t c) (hun : unvN (fun y => decide (0 < num y)) 8 ≤ 8) (hnx : nx + unvN (fun y => decide (0 < num y)) 8 ≤ 9) : Ct g l yX10_visit cX10_visit 4 none ({ frames := 18, cells := 0, slots := 0, locals := 409 } : Room) [.ref h, .int (nI t), .int c] σ (fun r σ' => r = none ∧ ∃ (num' low' : Nat → Nat) (nx' br' : Nat), σ' h = some (.inr (13, [.ref na, .ref la, .int (nI nx'), .int (nI br'), .ref (L 0)])) ∧ σ' na = some (eI g 0 (v 0) (fun x9 => nI (num' x9))) ∧ σ' la = some (eI g 0 (v 0) (fun x9 => nI (low' x9))) ∧ Fn σ σ' h na la ∧ nx' + unvN (fun y => decide (0 < num' y)) 8 ≤ 9 ∧ VP v c num low nx br t num' low' nx' br') (nox) := by
  refine Ct.body (by decide) (Nat.le_of_ble_eq_true rfl) ?_
  intro p_ e_ s_ m_ args_ below_ meth_ c_ ls H locs Q F hW hl hQ
  have hl : lv_has ls 4 [(0, .ref h), (1, .int (nI t)), (2, .int c)] := hl
  have hT := hWk.2.2.1
  have hP := hWk.2.2.2.1
  obtain ⟨mcT, nT, fT, eT, bT, -⟩ := id hT
  obtain ⟨mcP, nP, fP, eP, bP, -⟩ := id hP
  have hv0 := hI.1
  have hv1 := hI.2.1
  have hlt9 := unvN_lt (R := fun y => decide (0 < num y)) (R' := fun y => decide (0 < va_up num t nx y)) (fun y hy => by unfold va_up; split; exact decide_eq_true hp.2.2.1; exact hy) (t := t) (decide_eq_false (by rw [hp.1]; decide)) (decide_eq_true (by rw [va_up_self]; exact hp.2.2.1)) 8 (Nat.lt_of_lt_of_le hp.2.1 hI.1)
  have hpv := hp.2.1
  refine lv_aload_n F.x F.cd dX10_visit_0 rfl (lv_at hl 0 rfl) ?_
  refine s_get F hW (ci := 13) (C := RX10) (T := TX10) (N := 5) (v := .ref na) (e0) rfl in_X10 0 (by decide) q716 (fun _ h9 => h9) rfl dX10_visit_1 ?_
  refine lv_iload_n F.x F.cd dX10_visit_4 rfl (lv_at hl 1 rfl) ?_
  refine lv_aload_n F.x F.cd dX10_visit_5 rfl (lv_at hl 0 rfl) ?_
  refine s_get F hW (ci := 13) (C := RX10) (T := TX10) (N := 5) (v := .int (nI nx)) (e0) rfl in_X10 2 (by decide) q719 (fun _ h9 => h9) rfl dX10_visit_6 ?_
  refine n_iastN (i := t) F hW (en) (bn) (hp.2.1) (by omega) dX10_visit_9 (fun H locs hW => ?_)
  obtain ⟨σ1, hσ1⟩ : ∃ z, z = sset σ na (eI g 0 (v 0) (fun x9 => nI ((va_up num t nx) x9))) := ⟨_, rfl⟩
  have hW : Hl g σ1 H locs := by rw [hσ1]; exact hW
  have w1 : σ1 na = some (eI g 0 (v 0) (fun x9 => nI ((va_up num t nx) x9))) := by rw [hσ1]; exact sset_eq
  have f2 : σ1 (L 0) = some (.inr (1, [.ref (L 1), .ref (L 2), .int (nI (v 2)), .int (nI (v 3)), .int (nI (v 4)), .int (nI (v 5))])) := by rw [hσ1, sset_ne (sto_ne en hWk.1 (by simp))]; exact hWk.1
  have f3 : σ1 (L 1) = some (.inr (2, [.int mcT, .ref (L 3), .int (nI (v 0))])) := by rw [hσ1, sset_ne (sto_ne en eT (by simp))]; exact eT
  have j4 := IsList.setI (e := eI g 0 (v 0) (fun x9 => nI ((va_up num t nx) x9))) (hT) (en)
  rw [← hσ1] at j4
  have f5 : σ1 (L 2) = some (.inr (2, [.int mcP, .ref (L 4), .int (nI (v 1))])) := by rw [hσ1, sset_ne (sto_ne en eP (by simp))]; exact eP
  have j6 := IsList.setI (e := eI g 0 (v 0) (fun x9 => nI ((va_up num t nx) x9))) (hP) (en)
  rw [← hσ1] at j6
  have f7 : σ1 h = some (.inr (13, [.ref na, .ref la, .int (nI nx), .int (nI br), .ref (L 0)])) := by rw [hσ1, sset_ne (sto_ne en e0 (by simp))]; exact e0
  have f8 : σ1 la = some (eI g 0 (v 0) (fun x9 => nI (low x9))) := by rw [hσ1, sset_ne (Ne.symm hnl)]; exact el
  refine lv_aload_n F.x F.cd dX10_visit_10 rfl (lv_at hl 0 rfl) ?_
  refine s_get F hW (ci := 13) (C := RX10) (T := TX10) (N := 5) (v := .ref la) (f7) rfl in_X10 1 (by decide) q718 (fun _ h9 => h9) rfl dX10_visit_11 ?_
  refine lv_iload_n F.x F.cd dX10_visit_14 rfl (lv_at hl 1 rfl) ?_
  refine lv_aload_n F.x F.cd dX10_visit_15 rfl (lv_at hl 0 rfl) ?_
  refine s_get F hW (ci := 13) (C := RX10) (T := TX10) (N := 5) (v := .int (nI nx)) (f7) rfl in_X10 2 (by decide) q719 (fun _ h9 => h9) rfl dX10_visit_16 ?_
  refine n_iastN (i := t) F hW (f8) (bl) (hp.2.1) (by omega) dX10_visit_19 (fun H locs hW => ?_)
  obtain ⟨σ9, hσ9⟩ : ∃ z, z = sset σ1 la (eI g 0 (v 0) (fun x9 => nI ((va_up low t nx) x9))) := ⟨_, rfl⟩
  have hW : Hl g σ9 H locs := by rw [hσ9]; exact hW
  have w9 : σ9 la = some (eI g 0 (v 0) (fun x9 => nI ((va_up low t nx) x9))) := by rw [hσ9]; exact sset_eq
  have f10 : σ9 (L 0) = some (.inr (1, [.ref (L 1), .ref (L 2), .int (nI (v 2)), .int (nI (v 3)), .int (nI (v 4)), .int (nI (v 5))])) := by rw [hσ9, sset_ne (sto_ne f8 f2 (by simp))]; exact f2
  have f11 : σ9 (L 1) = some (.inr (2, [.int mcT, .ref (L 3), .int (nI (v 0))])) := by rw [hσ9, sset_ne (sto_ne f8 f3 (by simp))]; exact f3
  have j12 := IsList.setI (e := eI g 0 (v 0) (fun x9 => nI ((va_up low t nx) x9))) (j4) (f8)
  rw [← hσ9] at j12
  have f13 : σ9 (L 2) = some (.inr (2, [.int mcP, .ref (L 4), .int (nI (v 1))])) := by rw [hσ9, sset_ne (sto_ne f8 f5 (by simp))]; exact f5
  have j14 := IsList.setI (e := eI g 0 (v 0) (fun x9 => nI ((va_up low t nx) x9))) (j6) (f8)
  rw [← hσ9] at j14
  have f15 : σ9 h = some (.inr (13, [.ref na, .ref la, .int (nI nx), .int (nI br), .ref (L 0)])) := by rw [hσ9, sset_ne (sto_ne f8 f7 (by simp))]; exact f7
  have f16 : σ9 na = some (eI g 0 (v 0) (fun x9 => nI ((va_up num t nx) x9))) := by rw [hσ9, sset_ne (hnl)]; exact w1
  refine lv_aload_n F.x F.cd dX10_visit_20 rfl (lv_at hl 0 rfl) ?_
  refine lv_dup F.x F.cd dX10_visit_21 rfl ?_
  refine s_get F hW (ci := 13) (C := RX10) (T := TX10) (N := 5) (v := .int (nI nx)) (f15) rfl in_X10 2 (by decide) q719 (fun _ h9 => h9) rfl dX10_visit_22 ?_
  refine lv_iconst (v := (nI 1)) F.x F.cd dX10_visit_25 (by decide) ?_
  refine a_iadd (v := (nI (nx + 1))) F (nI_add _ _) dX10_visit_26 ?_
  refine s_put F hW (ci := 13) (C := RX10) (T := TX10) (N := 5) (v := .int (nI (nx + 1))) (ty := .int) (f15) (bh) rfl in_X10 tyX10_ok nmX10 2 (by decide) q719 (fun _ h9 => h9) rfl (by decide +kernel) rfl rfl (Nat.le_of_ble_eq_true rfl) dX10_visit_27 (fun H locs hW => ?_)
  obtain ⟨σ18, hσ18⟩ : ∃ z, z = sset σ9 h (.inr (13, [.ref na, .ref la, .int (nI (nx + 1)), .int (nI br), .ref (L 0)])) := ⟨_, rfl⟩
  have hW : Hl g σ18 H locs := by rw [hσ18]; exact hW
  have w18 : σ18 h = some (.inr (13, [.ref na, .ref la, .int (nI (nx + 1)), .int (nI br), .ref (L 0)])) := by rw [hσ18]; exact sset_eq
  have f19 : σ18 (L 0) = some (.inr (1, [.ref (L 1), .ref (L 2), .int (nI (v 2)), .int (nI (v 3)), .int (nI (v 4)), .int (nI (v 5))])) := by rw [hσ18, sset_ne (sto_ne f15 f10 (by simp))]; exact f10
  have f20 : σ18 (L 1) = some (.inr (2, [.int mcT, .ref (L 3), .int (nI (v 0))])) := by rw [hσ18, sset_ne (sto_ne f15 f11 (by simp))]; exact f11
  have j21 := IsList.setO (e := .inr (13, [.ref na, .ref la, .int (nI (nx + 1)), .int (nI br), .ref (L 0)])) (j12) (f15) (by decide)
  rw [← hσ18] at j21
  have f22 : σ18 (L 2) = some (.inr (2, [.int mcP, .ref (L 4), .int (nI (v 1))])) := by rw [hσ18, sset_ne (sto_ne f15 f13 (by simp))]; exact f13
  have j23 := IsList.setO (e := .inr (13, [.ref na, .ref la, .int (nI (nx + 1)), .int (nI br), .ref (L 0)])) (j14) (f15) (by decide)
  rw [← hσ18] at j23
  have f24 : σ18 na = some (eI g 0 (v 0) (fun x9 => nI ((va_up num t nx) x9))) := by rw [hσ18, sset_ne (sto_ne f15 f16 (by simp))]; exact f16
  have f25 : σ18 la = some (eI g 0 (v 0) (fun x9 => nI ((va_up low t nx) x9))) := by rw [hσ18, sset_ne (sto_ne f15 w9 (by simp))]; exact w9
  refine lv_iconst (v := (nI 0)) F.x F.cd dX10_visit_30 (by decide) ?_
  refine lv_istore_n (lv' := [(3, .int (nI 0)), (0, .ref h), (1, .int (nI t)), (2, .int c)]) F.x F.cd dX10_visit_31 rfl hl (by decide) rfl (fun ls hl => ?_)
  have loop32 : ∀ (n : Nat) (k : Nat) (σk : Sto) (num1 low1 : Nat → Nat) (nx1 br1 : Nat), k + n = v 1 → σk h = some (.inr (13, [.ref na, .ref la, .int (nI nx1), .int (nI br1), .ref (L 0)])) → σk na = some (eI g 0 (v 0) (fun x9 => nI (num1 x9))) → σk la = some (eI g 0 (v 0) (fun x9 => nI (low1 x9))) → Fn σ σk h na la → nx1 + unvN (fun y => decide (0 < num1 y)) 8 ≤ 9 → unvN (fun y => decide (0 < num1 y)) 8 ≤ 7 → VI v c num low nx br t num1 low1 nx1 br1 k → ∀ (H : Heap) (locs : List Loc) (ls : Array Slot), Hl g σk H locs → lv_has ls 4 [(0, .ref h), (1, .int (nI t)), (2, .int c), (3, .int (nI k))] → W p_ l e_ ({ frames := 18, cells := 0, slots := 0, locals := 409 } : Room) s_ m_ args_ below_ meth_ c_ H locs 0 0 Q (F0 m_ 32 ls ([])) := by
    intro n
    induction n with
    | zero =>
      intro k σk num1 low1 nx1 br1 hkn e1 en1 el1 hFk hb1 hu1 hVI H locs ls hW hl
      have hWn := hWk.fn hFk e0 en el
      have hT_k := hWn.2.2.1
      have hP_k := hWn.2.2.2.1
      obtain ⟨mcT_k, nT_k, fT_k, eT_k, bT_k, -⟩ := id hT_k
      obtain ⟨mcP_k, nP_k, fP_k, eP_k, bP_k, -⟩ := id hP_k
      have hv0_k := hI.1
      have hv1_k := hI.2.1
      refine lv_iload_n F.x F.cd dX10_visit_32 rfl (lv_at hl 3 rfl) ?_
      refine lv_aload_n F.x F.cd dX10_visit_33 rfl (lv_at hl 0 rfl) ?_
      refine s_get F hW (ci := 13) (C := RX10) (T := TX10) (N := 5) (v := .ref (L 0)) (e1) rfl in_X10 4 (by decide) q722 (fun _ h9 => h9) rfl dX10_visit_34 ?_
      refine s_getN F hW (ci := 1) (C := RX2) (T := TX2) (N := 6) (v := .ref (L 2)) (hWn.1) rfl in_X2 1 (by decide) q164 (fun _ h9 => h9) rfl dX10_visit_37 ?_
      refine s_callF (As := []) (rest := [.int (nI k)]) (C := RJ2) (T := TJ2) (N := 3) (n := 0) F hW (k_J2_size g l σk _ _ _ _ hP_k) (eP_k) rfl (List.mem_of_getElem? (i := 0) rfl) q715 q272 q274 q72 q276 (by decide +kernel) rfl ⟨⟨Nat.le_of_ble_eq_true rfl, Nat.le_of_ble_eq_true rfl⟩, ⟨(Nat.le_of_ble_eq_true rfl), (Nat.le_of_ble_eq_true rfl)⟩⟩ (Nat.le_of_ble_eq_true rfl) hl.1 rfl dX10_visit_40 cX_no (fun r26 σ26 H locs hp26 hW => ?_)
      obtain ⟨rfl, hs26⟩ := hp26
      rw [hs26] at hW
      refine W.eq (g2 := F0 m_ 45 ls (.int (nI (v 1)) :: .int (nI k) :: [])) rfl ?_
      refine n_icmp_ge (a := k) (b := v 1) (tgt := 110) F (by omega) (by omega) dX10_visit_45 (by decide) (fun c_45 => ?_) (fun c_45 => ?_)
      · subst hQ
        exact s_retv F hW (⟨rfl, _, _, _, _, e1, en1, el1, hFk, hb1, VI.done hp (by rw [← show k = v 1 by omega]; exact hVI)⟩) ⟨(Nat.le_of_ble_eq_true rfl), (Nat.le_of_ble_eq_true rfl)⟩ dX10_visit_110
      · exact absurd c_45 (by omega)
    | succ n ih32 =>
      intro k σk num1 low1 nx1 br1 hkn e1 en1 el1 hFk hb1 hu1 hVI H locs ls hW hl
      have hWn := hWk.fn hFk e0 en el
      have hT_k := hWn.2.2.1
      have hP_k := hWn.2.2.2.1
      obtain ⟨mcT_k, nT_k, fT_k, eT_k, bT_k, -⟩ := id hT_k
      obtain ⟨mcP_k, nP_k, fP_k, eP_k, bP_k, -⟩ := id hP_k
      have hv0_k := hI.1
      have hv1_k := hI.2.1
      refine lv_iload_n F.x F.cd dX10_visit_32 rfl (lv_at hl 3 rfl) ?_
      refine lv_aload_n F.x F.cd dX10_visit_33 rfl (lv_at hl 0 rfl) ?_
      refine s_get F hW (ci := 13) (C := RX10) (T := TX10) (N := 5) (v := .ref (L 0)) (e1) rfl in_X10 4 (by decide) q722 (fun _ h9 => h9) rfl dX10_visit_34 ?_
      refine s_getN F hW (ci := 1) (C := RX2) (T := TX2) (N := 6) (v := .ref (L 2)) (hWn.1) rfl in_X2 1 (by decide) q164 (fun _ h9 => h9) rfl dX10_visit_37 ?_
      refine s_callF (As := []) (rest := [.int (nI k)]) (C := RJ2) (T := TJ2) (N := 3) (n := 0) F hW (k_J2_size g l σk _ _ _ _ hP_k) (eP_k) rfl (List.mem_of_getElem? (i := 0) rfl) q715 q272 q274 q72 q276 (by decide +kernel) rfl ⟨⟨Nat.le_of_ble_eq_true rfl, Nat.le_of_ble_eq_true rfl⟩, ⟨(Nat.le_of_ble_eq_true rfl), (Nat.le_of_ble_eq_true rfl)⟩⟩ (Nat.le_of_ble_eq_true rfl) hl.1 rfl dX10_visit_40 cX_no (fun r27 σ27 H locs hp27 hW => ?_)
      obtain ⟨rfl, hs27⟩ := hp27
      rw [hs27] at hW
      refine W.eq (g2 := F0 m_ 45 ls (.int (nI (v 1)) :: .int (nI k) :: [])) rfl ?_
      refine n_icmp_ge (a := k) (b := v 1) (tgt := 110) F (by omega) (by omega) dX10_visit_45 (by decide) (fun c_45 => ?_) (fun c_45 => ?_)
      · exact absurd c_45 (by omega)
      · have hpq := hI.pp (q := k) (by omega)
        refine lv_iload_n F.x F.cd dX10_visit_48 rfl (lv_at hl 3 rfl) ?_
        refine lv_iload_n F.x F.cd dX10_visit_49 rfl (lv_at hl 2 rfl) ?_
        refine lv_icmp_eq (x := (nI k)) (y := c) (tgt := 104) F.x F.cd dX10_visit_50 (by decide) (fun c_50 => ?_) (fun c_50 => ?_)
        · refine lv_iinc (k := 3) (v := (nI (k + 1))) (lv' := [(3, .int (nI (k + 1))), (0, .ref h), (1, .int (nI t)), (2, .int c)]) F.x F.cd dX10_visit_104 hl rfl (inc_nI k 1) (by decide) rfl (fun ls hl => ?_)
          refine lv_goto (tgt := 32) F.x F.cd dX10_visit_107 (by decide) ?_
          exact ih32 (k + 1) σk num1 low1 nx1 br1 (by omega) (e1) (en1) (el1) (hFk) (hb1) (hu1) (hVI.skip (Or.inl c_50)) H locs ls hW (lv_sub hl [1, 2, 3, 0] rfl)
        · refine lv_aload_n F.x F.cd dX10_visit_53 rfl (lv_at hl 0 rfl) ?_
          refine s_get F hW (ci := 13) (C := RX10) (T := TX10) (N := 5) (v := .ref (L 0)) (e1) rfl in_X10 4 (by decide) q722 (fun _ h9 => h9) rfl dX10_visit_54 ?_
          refine s_getN F hW (ci := 1) (C := RX2) (T := TX2) (N := 6) (v := .ref (L 2)) (hWn.1) rfl in_X2 1 (by decide) q164 (fun _ h9 => h9) rfl dX10_visit_57 ?_
          refine lv_iload_n F.x F.cd dX10_visit_60 rfl (lv_at hl 3 rfl) ?_
          refine s_callF (As := [.int (nI k)]) (rest := []) (C := RJ2) (T := TJ2) (N := 3) (n := 1) F hW (k_J2_get g l σk _ _ _ _ k hP_k (by omega)) (eP_k) rfl (List.mem_of_getElem? (i := 1) rfl) q739 q328 q330 q72 q332 (by decide +kernel) rfl ⟨⟨Nat.le_of_ble_eq_true rfl, Nat.le_of_ble_eq_true rfl⟩, ⟨(Nat.le_of_ble_eq_true rfl), (Nat.le_of_ble_eq_true rfl)⟩⟩ (Nat.le_of_ble_eq_true rfl) hl.1 rfl dX10_visit_61 cX_no (fun r28 σ28 H locs hp28 hW => ?_)
          obtain ⟨rfl, hs28⟩ := hp28
          rw [hs28] at hW
          refine W.eq (g2 := F0 m_ 66 ls (.ref (L (100 + k)) :: [])) rfl ?_
          refine s_cast_ F hW (C := RX5) (T := TX5) (N := 7) ((hWn.2.2.2.2.2.1 k (by omega)).1) rfl q740 dX10_visit_66 ?_
          refine s_callV (As := []) (rest := []) (C := RX5) (T := TX5) (N := 7) (n := 0) F hW (k_X5_isOpen g l σk (L (100 + k)) (pA v k) (pB v k) (pM v k) (pV v k) (pR v k) (pD v k) (pL v k) ((hWn.2.2.2.2.2.1 k (by omega)).1) (by omega) (by omega)) ((hWn.2.2.2.2.2.1 k (by omega)).1) rfl q741 q672 q673 q96 q674 rfl (by decide +kernel) rfl ⟨⟨Nat.le_of_ble_eq_true rfl, Nat.le_of_ble_eq_true rfl⟩, ⟨(Nat.le_of_ble_eq_true rfl), (Nat.le_of_ble_eq_true rfl)⟩⟩ (Nat.le_of_ble_eq_true rfl) hl.1 rfl dX10_visit_69 cX_no (fun r29 σ29 H locs hp29 hW => ?_)
          obtain ⟨rfl, hs29⟩ := hp29
          rw [hs29] at hW
          refine W.eq (g2 := F0 m_ 72 ls (.int (bI (opn (pV v k) (pD v k))) :: [])) rfl ?_
          refine b_if_eq (b := (opn (pV v k) (pD v k))) (tgt := 104) F dX10_visit_72 (by decide) (fun c_72 => ?_) (fun c_72 => ?_)
          · refine lv_iinc (k := 3) (v := (nI (k + 1))) (lv' := [(3, .int (nI (k + 1))), (0, .ref h), (1, .int (nI t)), (2, .int c)]) F.x F.cd dX10_visit_104 hl rfl (inc_nI k 1) (by decide) rfl (fun ls hl => ?_)
            refine lv_goto (tgt := 32) F.x F.cd dX10_visit_107 (by decide) ?_
            exact ih32 (k + 1) σk num1 low1 nx1 br1 (by omega) (e1) (en1) (el1) (hFk) (hb1) (hu1) (hVI.skip (Or.inr (fun z hz => by rw [hz.1] at c_72; cases c_72))) H locs ls hW (lv_sub hl [1, 2, 3, 0] rfl)
          · refine lv_aload_n F.x F.cd dX10_visit_75 rfl (lv_at hl 0 rfl) ?_
            refine s_get F hW (ci := 13) (C := RX10) (T := TX10) (N := 5) (v := .ref (L 0)) (e1) rfl in_X10 4 (by decide) q722 (fun _ h9 => h9) rfl dX10_visit_76 ?_
            refine s_getN F hW (ci := 1) (C := RX2) (T := TX2) (N := 6) (v := .ref (L 2)) (hWn.1) rfl in_X2 1 (by decide) q164 (fun _ h9 => h9) rfl dX10_visit_79 ?_
            refine lv_iload_n F.x F.cd dX10_visit_82 rfl (lv_at hl 3 rfl) ?_
            refine s_callF (As := [.int (nI k)]) (rest := []) (C := RJ2) (T := TJ2) (N := 3) (n := 1) F hW (k_J2_get g l σk _ _ _ _ k hP_k (by omega)) (eP_k) rfl (List.mem_of_getElem? (i := 1) rfl) q739 q328 q330 q72 q332 (by decide +kernel) rfl ⟨⟨Nat.le_of_ble_eq_true rfl, Nat.le_of_ble_eq_true rfl⟩, ⟨(Nat.le_of_ble_eq_true rfl), (Nat.le_of_ble_eq_true rfl)⟩⟩ (Nat.le_of_ble_eq_true rfl) hl.1 rfl dX10_visit_83 cX_no (fun r30 σ30 H locs hp30 hW => ?_)
            obtain ⟨rfl, hs30⟩ := hp30
            rw [hs30] at hW
            refine W.eq (g2 := F0 m_ 88 ls (.ref (L (100 + k)) :: [])) rfl ?_
            refine s_cast_ F hW (C := RX5) (T := TX5) (N := 7) ((hWn.2.2.2.2.2.1 k (by omega)).1) rfl q740 dX10_visit_88 ?_
            refine lv_iload_n F.x F.cd dX10_visit_91 rfl (lv_at hl 1 rfl) ?_
            refine s_callV (As := [.int (nI t)]) (rest := []) (C := RX5) (T := TX5) (N := 7) (n := 1) F hW (k_X5_touches g l σk (L (100 + k)) (pA v k) (pB v k) (pM v k) (pV v k) (pR v k) (pD v k) (pL v k) t ((hWn.2.2.2.2.2.1 k (by omega)).1) (by omega) (by omega) (by omega)) ((hWn.2.2.2.2.2.1 k (by omega)).1) rfl q742 q676 q677 q96 q678 rfl (by decide +kernel) rfl ⟨⟨Nat.le_of_ble_eq_true rfl, Nat.le_of_ble_eq_true rfl⟩, ⟨(Nat.le_of_ble_eq_true rfl), (Nat.le_of_ble_eq_true rfl)⟩⟩ (Nat.le_of_ble_eq_true rfl) hl.1 rfl dX10_visit_92 cX_no (fun r31 σ31 H locs hp31 hW => ?_)
            obtain ⟨rfl, hs31⟩ := hp31
            rw [hs31] at hW
            refine W.eq (g2 := F0 m_ 95 ls (.int (bI (tch (pA v k) (pB v k) t)) :: [])) rfl ?_
            refine b_if_eq (b := (tch (pA v k) (pB v k) t)) (tgt := 104) F dX10_visit_95 (by decide) (fun c_95 => ?_) (fun c_95 => ?_)
            · refine lv_iinc (k := 3) (v := (nI (k + 1))) (lv' := [(3, .int (nI (k + 1))), (0, .ref h), (1, .int (nI t)), (2, .int c)]) F.x F.cd dX10_visit_104 hl rfl (inc_nI k 1) (by decide) rfl (fun ls hl => ?_)
              refine lv_goto (tgt := 32) F.x F.cd dX10_visit_107 (by decide) ?_
              exact ih32 (k + 1) σk num1 low1 nx1 br1 (by omega) (e1) (en1) (el1) (hFk) (hb1) (hu1) (hVI.skip (Or.inr (fun z hz => by have h9 := hz.2; rw [show tch (pA v k) (pB v k) t = true from decide_eq_true (h9.elim (fun h => Or.inl h.1) (fun h => Or.inr h.1))] at c_95; cases c_95))) H locs ls hW (lv_sub hl [1, 2, 3, 0] rfl)
            · refine lv_aload_n F.x F.cd dX10_visit_98 rfl (lv_at hl 0 rfl) ?_
              refine lv_iload_n F.x F.cd dX10_visit_99 rfl (lv_at hl 1 rfl) ?_
              refine lv_iload_n F.x F.cd dX10_visit_100 rfl (lv_at hl 3 rfl) ?_
              refine s_callV (As := [.int (nI t), .int (nI k)]) (rest := []) (C := RX10) (T := TX10) (N := 5) (n := 2) F hW (k_X10_follow_8 g l σk L v h na la t nx br c num low num1 low1 nx1 br1 k hWn hI e1 en1 el1 bh bn bl hnl hp hVI (by omega) c_50 ⟨c_72, tch_oth c_95 (hI.pp (show k < v 1 by omega)).2.2.1⟩ hu1 hb1) (e1) rfl q743 q745 qs4 q108 q746 rfl (by decide +kernel) rfl ⟨⟨Nat.le_of_ble_eq_true rfl, Nat.le_of_ble_eq_true rfl⟩, ⟨(Nat.le_of_ble_eq_true rfl), (Nat.le_of_ble_eq_true rfl)⟩⟩ (Nat.le_of_ble_eq_true rfl) hl.1 rfl dX10_visit_101 cX_no (fun r32 σ32 H locs hp32 hW => ?_)
              obtain ⟨rfl, num2, low2, nx2, br2, e2, en2, el2, hF2, hb2, hm2, hVI2⟩ := hp32
              refine W.eq (g2 := F0 m_ 104 ls ([])) rfl ?_
              refine lv_iinc (k := 3) (v := (nI (k + 1))) (lv' := [(3, .int (nI (k + 1))), (0, .ref h), (1, .int (nI t)), (2, .int c)]) F.x F.cd dX10_visit_104 hl rfl (inc_nI k 1) (by decide) rfl (fun ls hl => ?_)
              refine lv_goto (tgt := 32) F.x F.cd dX10_visit_107 (by decide) ?_
              exact ih32 (k + 1) σ32 num2 low2 nx2 br2 (by omega) (e2) (en2) (el2) (hFk.trans hF2) (hb2) (Nat.le_trans (unvN_le (fun y hy => decide_eq_true (hm2 y (of_decide_eq_true hy))) 8) hu1) (hVI2) H locs ls hW (lv_sub hl [1, 2, 3, 0] rfl)
  exact loop32 (v 1) 0 _ _ _ _ _ (by omega) (w18) (f24) (f25) (by rw [hσ18, hσ9, hσ1]; exact ((Fn.refl.set (Or.inr (Or.inl rfl))).set (Or.inr (Or.inr rfl))).set (Or.inl rfl)) (by have h9 := hlt9; omega) (by have h9 := hlt9; omega) (VI.start hI hp) H locs ls hW (lv_sub hl [1, 2, 3, 0] rfl)
