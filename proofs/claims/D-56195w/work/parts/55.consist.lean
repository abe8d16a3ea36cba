/-! ===== isConsistent ===== -/
set_option maxRecDepth 100000
theorem grN_le {v : Nat → Nat} : ∀ n, grN v n ≤ n
  | 0 => Nat.le_refl _
  | n + 1 => by
    have := grN_le (v := v) n
    rw [grN]
    split <;> omega
theorem brN_le {v : Nat → Nat} : ∀ n, brN v n ≤ n
  | 0 => Nat.le_refl _
  | n + 1 => by
    have := brN_le (v := v) n
    rw [brN]
    split <;> omega
theorem sumK_le {v : Nat → Nat} (hI : Inv v) : ∀ n, n ≤ v 0 → sumK v n ≤ 999 * n
  | 0, _ => Nat.le_refl _
  | n + 1, h => by
    have := sumK_le hI n (by omega)
    have := hI.tk (t := n) (by omega)
    rw [sumK]
    omega
set_option maxHeartbeats 4000000 in
theorem k_X2_isConsistent (g : Gh) (l : Launch) (σ : Sto) (L v : Nat → Nat) (hWk : IsWorks g σ L v) (hI : Inv v) : Ct g l yX2_isConsistent cX2_isConsistent 3 (some .boolean) ({ frames := 20, cells := 726, slots := 21081, locals := 454 } : Room) [.ref (L 0)] σ (fun r σ' => r = some (.int (bI true)) ∧ Ext σ σ') (nox) := by
  refine Ct.body (by decide) (Nat.le_of_ble_eq_true rfl) ?_
  intro p_ e_ s_ m_ args_ below_ meth_ c_ ls H locs Q F hW hl hQ
  have hl : lv_has ls 3 [(0, .ref (L 0))] := hl
  have hT := hWk.2.2.1
  have hP := hWk.2.2.2.1
  obtain ⟨mcT, nT, fT, eT, bT, -⟩ := id hT
  obtain ⟨mcP, nP, fP, eP, bP, -⟩ := id hP
  have hv0 := hI.1
  have hv1 := hI.2.1
  have hgr := grN_le (v := v) (v 0)
  have hbr := brN_le (v := v) (v 1)
  have hsu := sumK_le hI (v 0) (Nat.le_refl _)
  refine lv_aload_n F.x F.cd dX2_isConsistent_0 rfl (lv_at hl 0 rfl) ?_
  refine s_callV (As := []) (rest := []) (C := RX2) (T := TX2) (N := 6) (n := 0) F hW (k_X2_groups g l σ L v hWk hI) (hWk.1) rfl q829 q292 q293 q69 q294 rfl (by decide +kernel) rfl ⟨⟨Nat.le_of_ble_eq_true rfl, Nat.le_of_ble_eq_true rfl⟩, ⟨(Nat.le_of_ble_eq_true rfl), (Nat.le_of_ble_eq_true rfl)⟩⟩ (Nat.le_of_ble_eq_true rfl) hl.1 rfl dX2_isConsistent_1 cX_no (fun r1 σ1 H locs hp1 hW => ?_)
  obtain ⟨rfl, hE1⟩ := hp1
  refine W.eq (g2 := F0 m_ 4 ls (.int (nI (grN v (v 0))) :: [])) rfl ?_
  have hWk1 := hWk.ext hE1
  have hXt1 := Ext.trans (Ext.refl) hE1
  have hT_1 := hWk1.2.2.1
  have hP_1 := hWk1.2.2.2.1
  obtain ⟨mcT_1, nT_1, fT_1, eT_1, bT_1, -⟩ := id hT_1
  obtain ⟨mcP_1, nP_1, fP_1, eP_1, bP_1, -⟩ := id hP_1
  have hv0_1 := hI.1
  have hv1_1 := hI.2.1
  refine lv_aload_n F.x F.cd dX2_isConsistent_4 rfl (lv_at hl 0 rfl) ?_
  refine s_callV (As := []) (rest := [.int (nI (grN v (v 0)))]) (C := RX2) (T := TX2) (N := 6) (n := 0) F hW (k_X2_groupsByUnions g l σ1 L v hWk1 hI) (hWk1.1) rfl q830 q689 q690 q69 q691 rfl (by decide +kernel) rfl ⟨⟨Nat.le_of_ble_eq_true rfl, Nat.le_of_ble_eq_true rfl⟩, ⟨(Nat.le_of_ble_eq_true rfl), (Nat.le_of_ble_eq_true rfl)⟩⟩ (Nat.le_of_ble_eq_true rfl) hl.1 rfl dX2_isConsistent_5 cX_no (fun r2 σ2 H locs hp2 hW => ?_)
  obtain ⟨rfl, hE2⟩ := hp2
  refine W.eq (g2 := F0 m_ 8 ls (.int (nI (grN v (v 0))) :: .int (nI (grN v (v 0))) :: [])) rfl ?_
  have hWk2 := hWk1.ext hE2
  have hXt2 := Ext.trans (hXt1) hE2
  have hT_2 := hWk2.2.2.1
  have hP_2 := hWk2.2.2.2.1
  obtain ⟨mcT_2, nT_2, fT_2, eT_2, bT_2, -⟩ := id hT_2
  obtain ⟨mcP_2, nP_2, fP_2, eP_2, bP_2, -⟩ := id hP_2
  have hv0_2 := hI.1
  have hv1_2 := hI.2.1
  refine n_icmp_ne (a := grN v (v 0)) (b := grN v (v 0)) (tgt := 26) F (by omega) (by omega) dX2_isConsistent_8 (by decide) (fun c_8 => ?_) (fun c_8 => ?_)
  · exact absurd rfl c_8
  · refine lv_aload_n F.x F.cd dX2_isConsistent_11 rfl (lv_at hl 0 rfl) ?_
    refine s_callV (As := []) (rest := []) (C := RX2) (T := TX2) (N := 6) (n := 0) F hW (k_X2_bridges g l σ2 L v hWk2 hI) (hWk2.1) rfl q831 q705 q706 q69 q707 rfl (by decide +kernel) rfl ⟨⟨Nat.le_of_ble_eq_true rfl, Nat.le_of_ble_eq_true rfl⟩, ⟨(Nat.le_of_ble_eq_true rfl), (Nat.le_of_ble_eq_true rfl)⟩⟩ (Nat.le_of_ble_eq_true rfl) hl.1 rfl dX2_isConsistent_12 cX_no (fun r3 σ3 H locs hp3 hW => ?_)
    obtain ⟨rfl, hE3⟩ := hp3
    refine W.eq (g2 := F0 m_ 15 ls (.int (nI (brN v (v 1))) :: [])) rfl ?_
    have hWk3 := hWk2.ext hE3
    have hXt3 := Ext.trans (hXt2) hE3
    have hT_3 := hWk3.2.2.1
    have hP_3 := hWk3.2.2.2.1
    obtain ⟨mcT_3, nT_3, fT_3, eT_3, bT_3, -⟩ := id hT_3
    obtain ⟨mcP_3, nP_3, fP_3, eP_3, bP_3, -⟩ := id hP_3
    have hv0_3 := hI.1
    have hv1_3 := hI.2.1
    refine lv_aload_n F.x F.cd dX2_isConsistent_15 rfl (lv_at hl 0 rfl) ?_
    refine s_callV (As := []) (rest := [.int (nI (brN v (v 1)))]) (C := RX2) (T := TX2) (N := 6) (n := 0) F hW (k_X2_bridgesByLeavingOut g l σ3 L v hWk3 hI) (hWk3.1) rfl q832 q755 q756 q69 q757 rfl (by decide +kernel) rfl ⟨⟨Nat.le_of_ble_eq_true rfl, Nat.le_of_ble_eq_true rfl⟩, ⟨(Nat.le_of_ble_eq_true rfl), (Nat.le_of_ble_eq_true rfl)⟩⟩ (Nat.le_of_ble_eq_true rfl) hl.1 rfl dX2_isConsistent_16 cX_no (fun r4 σ4 H locs hp4 hW => ?_)
    obtain ⟨rfl, hE4⟩ := hp4
    refine W.eq (g2 := F0 m_ 19 ls (.int (nI (brN v (v 1))) :: .int (nI (brN v (v 1))) :: [])) rfl ?_
    have hWk4 := hWk3.ext hE4
    have hXt4 := Ext.trans (hXt3) hE4
    have hT_4 := hWk4.2.2.1
    have hP_4 := hWk4.2.2.2.1
    obtain ⟨mcT_4, nT_4, fT_4, eT_4, bT_4, -⟩ := id hT_4
    obtain ⟨mcP_4, nP_4, fP_4, eP_4, bP_4, -⟩ := id hP_4
    have hv0_4 := hI.1
    have hv1_4 := hI.2.1
    refine n_icmp_ne (a := brN v (v 1)) (b := brN v (v 1)) (tgt := 26) F (by omega) (by omega) dX2_isConsistent_19 (by decide) (fun c_19 => ?_) (fun c_19 => ?_)
    · exact absurd rfl c_19
    · refine lv_iconst (v := (nI 1)) F.x F.cd dX2_isConsistent_22 (by decide) ?_
      refine lv_goto (tgt := 27) F.x F.cd dX2_isConsistent_23 (by decide) ?_
      refine W.eq (g2 := F0 m_ 27 ls (.int (bI true) :: [])) (rfl) ?_
      refine lv_istore_n (lv' := [(1, .int (bI true)), (0, .ref (L 0))]) F.x F.cd dX2_isConsistent_27 rfl hl (by decide) rfl (fun ls hl => ?_)
      refine lv_iconst (v := (nI 0)) F.x F.cd dX2_isConsistent_28 (by decide) ?_
      refine lv_istore_n (lv' := [(2, .int (nI 0)), (1, .int (bI true)), (0, .ref (L 0))]) F.x F.cd dX2_isConsistent_29 rfl hl (by decide) rfl (fun ls hl => ?_)
      have hl : lv_has ls 3 [(2, .int (nI 0)), (1, .int (bI true)), (0, .ref (L 0))] := hl
      have loop30 : ∀ (n : Nat) (k : Nat) (σk : Sto), k + n = v 0 → Ext σ4 σk → ∀ (H : Heap) (locs : List Loc) (ls : Array Slot), Hl g σk H locs → lv_has ls 3 [(0, .ref (L 0)), (1, .int (bI true)), (2, .int (nI k))] → W p_ l e_ ({ frames := 20, cells := 726, slots := 21081, locals := 454 } : Room) s_ m_ args_ below_ meth_ c_ H locs (30 + 87 * k) (185 + 2612 * k) Q (F0 m_ 30 ls ([])) := by
        intro n
        induction n with
        | zero =>
          intro k σk hkn hXk H locs ls hW hl
          have hWn := hWk4.ext hXk
          have hT_k := hWn.2.2.1
          have hP_k := hWn.2.2.2.1
          obtain ⟨mcT_k, nT_k, fT_k, eT_k, bT_k, -⟩ := id hT_k
          obtain ⟨mcP_k, nP_k, fP_k, eP_k, bP_k, -⟩ := id hP_k
          have hv0_k := hI.1
          have hv1_k := hI.2.1
          refine W.widen (k := 726) (n := 21081) (by omega) (by omega) ?_
          refine lv_iload_n F.x F.cd dX2_isConsistent_30 rfl (lv_at hl 2 rfl) ?_
          refine lv_aload_n F.x F.cd dX2_isConsistent_31 rfl (lv_at hl 0 rfl) ?_
          refine s_get F hW (ci := 1) (C := RX2) (T := TX2) (N := 6) (v := .ref (L 1)) (hWn.1) rfl in_X2 0 (by decide) q159 (fun _ h9 => h9) rfl dX2_isConsistent_32 ?_
          refine s_callF (As := []) (rest := [.int (nI k)]) (C := RJ2) (T := TJ2) (N := 3) (n := 0) F hW (k_J2_size g l σk _ _ _ _ hT_k) (eT_k) rfl (List.mem_of_getElem? (i := 0) rfl) q317 q272 q274 q72 q276 (by decide +kernel) rfl ⟨⟨Nat.le_of_ble_eq_true rfl, Nat.le_of_ble_eq_true rfl⟩, ⟨(Nat.le_of_ble_eq_true rfl), (Nat.le_of_ble_eq_true rfl)⟩⟩ (Nat.le_of_ble_eq_true rfl) hl.1 rfl dX2_isConsistent_35 cX_no (fun r5 σ5 H locs hp5 hW => ?_)
          obtain ⟨rfl, hs5⟩ := hp5
          rw [hs5] at hW
          refine W.eq (g2 := F0 m_ 40 ls (.int (nI (v 0)) :: .int (nI k) :: [])) rfl ?_
          refine n_icmp_ge (a := k) (b := v 0) (tgt := 86) F (by omega) (by omega) dX2_isConsistent_40 (by decide) (fun c_40 => ?_) (fun c_40 => ?_)
          · refine lv_iload_n F.x F.cd dX2_isConsistent_86 rfl (lv_at hl 1 rfl) ?_
            refine b_if_eq (b := true) (tgt := 105) F dX2_isConsistent_87 (by decide) (fun c_87 => ?_) (fun c_87 => ?_)
            · exact absurd c_87 (by decide)
            · refine lv_aload_n F.x F.cd dX2_isConsistent_90 rfl (lv_at hl 0 rfl) ?_
              refine s_callV (As := []) (rest := []) (C := RX2) (T := TX2) (N := 6) (n := 0) F hW (k_X2_totalContent g l σk L v hWn hI) (hWn.1) rfl q910 q787 q788 q69 q789 rfl (by decide +kernel) rfl ⟨⟨Nat.le_of_ble_eq_true rfl, Nat.le_of_ble_eq_true rfl⟩, ⟨(Nat.le_of_ble_eq_true rfl), (Nat.le_of_ble_eq_true rfl)⟩⟩ (Nat.le_of_ble_eq_true rfl) hl.1 rfl dX2_isConsistent_91 cX_no (fun r6 σ6 H locs hp6 hW => ?_)
              obtain ⟨rfl, hs6⟩ := hp6
              rw [hs6] at hW
              refine W.eq (g2 := F0 m_ 94 ls (.int (nI (sumK v (v 0))) :: [])) rfl ?_
              refine lv_aload_n F.x F.cd dX2_isConsistent_94 rfl (lv_at hl 0 rfl) ?_
              refine s_callV (As := []) (rest := [.int (nI (sumK v (v 0)))]) (C := RX2) (T := TX2) (N := 6) (n := 0) F hW (k_X2_totalContentByAccounts g l σk L v hWn hI) (hWn.1) rfl q911 q796 q797 q69 q798 rfl (by decide +kernel) rfl ⟨⟨Nat.le_of_ble_eq_true rfl, Nat.le_of_ble_eq_true rfl⟩, ⟨(Nat.le_of_ble_eq_true rfl), (Nat.le_of_ble_eq_true rfl)⟩⟩ (Nat.le_of_ble_eq_true rfl) hl.1 rfl dX2_isConsistent_95 cX_no (fun r7 σ7 H locs hp7 hW => ?_)
              obtain ⟨rfl, hs7⟩ := hp7
              rw [hs7] at hW
              refine W.eq (g2 := F0 m_ 98 ls (.int (nI (sumK v (v 0))) :: .int (nI (sumK v (v 0))) :: [])) rfl ?_
              refine n_icmp_ne (a := sumK v (v 0)) (b := sumK v (v 0)) (tgt := 105) F (by omega) (by omega) dX2_isConsistent_98 (by decide) (fun c_98 => ?_) (fun c_98 => ?_)
              · exact absurd rfl c_98
              · refine lv_iconst (v := (nI 1)) F.x F.cd dX2_isConsistent_101 (by decide) ?_
                refine lv_goto (tgt := 106) F.x F.cd dX2_isConsistent_102 (by decide) ?_
                refine W.eq (g2 := F0 m_ 106 ls (.int (bI true) :: [])) (rfl) ?_
                subst hQ
                exact s_reti (v := (bI true)) F hW (nar_bI _) (⟨rfl, Ext.trans (hXt4) hXk⟩) ⟨(Nat.le_of_ble_eq_true rfl), (Nat.le_of_ble_eq_true rfl)⟩ dX2_isConsistent_106
          · exact absurd c_40 (by omega)
        | succ n ih30 =>
          intro k σk hkn hXk H locs ls hW hl
          have hWn := hWk4.ext hXk
          have hT_k := hWn.2.2.1
          have hP_k := hWn.2.2.2.1
          obtain ⟨mcT_k, nT_k, fT_k, eT_k, bT_k, -⟩ := id hT_k
          obtain ⟨mcP_k, nP_k, fP_k, eP_k, bP_k, -⟩ := id hP_k
          have hv0_k := hI.1
          have hv1_k := hI.2.1
          refine lv_iload_n F.x F.cd dX2_isConsistent_30 rfl (lv_at hl 2 rfl) ?_
          refine lv_aload_n F.x F.cd dX2_isConsistent_31 rfl (lv_at hl 0 rfl) ?_
          refine s_get F hW (ci := 1) (C := RX2) (T := TX2) (N := 6) (v := .ref (L 1)) (hWn.1) rfl in_X2 0 (by decide) q159 (fun _ h9 => h9) rfl dX2_isConsistent_32 ?_
          refine s_callF (As := []) (rest := [.int (nI k)]) (C := RJ2) (T := TJ2) (N := 3) (n := 0) F hW (k_J2_size g l σk _ _ _ _ hT_k) (eT_k) rfl (List.mem_of_getElem? (i := 0) rfl) q317 q272 q274 q72 q276 (by decide +kernel) rfl ⟨⟨Nat.le_of_ble_eq_true rfl, Nat.le_of_ble_eq_true rfl⟩, ⟨(by show (30 + 87 * k) + 0 ≤ 726; omega), (by show (185 + 2612 * k) + 0 ≤ 21081; omega)⟩⟩ (Nat.le_of_ble_eq_true rfl) hl.1 rfl dX2_isConsistent_35 cX_no (fun r8 σ8 H locs hp8 hW => ?_)
          obtain ⟨rfl, hs8⟩ := hp8
          rw [hs8] at hW
          refine W.eq (g2 := F0 m_ 40 ls (.int (nI (v 0)) :: .int (nI k) :: [])) rfl ?_
          refine n_icmp_ge (a := k) (b := v 0) (tgt := 86) F (by omega) (by omega) dX2_isConsistent_40 (by decide) (fun c_40 => ?_) (fun c_40 => ?_)
          · exact absurd c_40 (by omega)
          · refine lv_iload_n F.x F.cd dX2_isConsistent_43 rfl (lv_at hl 1 rfl) ?_
            refine b_if_eq (b := true) (tgt := 78) F dX2_isConsistent_44 (by decide) (fun c_44 => ?_) (fun c_44 => ?_)
            · exact absurd c_44 (by decide)
            · have htk := hI.tk (t := k) (by omega)
              refine lv_aload_n F.x F.cd dX2_isConsistent_47 rfl (lv_at hl 0 rfl) ?_
              refine s_get F hW (ci := 1) (C := RX2) (T := TX2) (N := 6) (v := .ref (L 1)) (hWn.1) rfl in_X2 0 (by decide) q159 (fun _ h9 => h9) rfl dX2_isConsistent_48 ?_
              refine lv_iload_n F.x F.cd dX2_isConsistent_51 rfl (lv_at hl 2 rfl) ?_
              refine s_callF (As := [.int (nI k)]) (rest := []) (C := RJ2) (T := TJ2) (N := 3) (n := 1) F hW (k_J2_get g l σk _ _ _ _ k hT_k (by omega)) (eT_k) rfl (List.mem_of_getElem? (i := 1) rfl) q693 q328 q330 q72 q332 (by decide +kernel) rfl ⟨⟨Nat.le_of_ble_eq_true rfl, Nat.le_of_ble_eq_true rfl⟩, ⟨(by show (30 + 87 * k + 0) + 0 ≤ 726; omega), (by show (185 + 2612 * k + 0) + 0 ≤ 21081; omega)⟩⟩ (Nat.le_of_ble_eq_true rfl) hl.1 rfl dX2_isConsistent_52 cX_no (fun r9 σ9 H locs hp9 hW => ?_)
              obtain ⟨rfl, hs9⟩ := hp9
              rw [hs9] at hW
              refine W.eq (g2 := F0 m_ 57 ls (.ref (L (10 + k)) :: [])) rfl ?_
              refine s_cast_ F hW (C := RX4) (T := TX4) (N := 3) ((hWn.2.2.2.2.1 k (by omega)).1) rfl q790 dX2_isConsistent_57 ?_
              refine s_callV (As := []) (rest := []) (C := RX4) (T := TX4) (N := 3) (n := 0) F hW (k_X4_room g l σk (L (10 + k)) (tC v k) (tK v k) (tI v k) ((hWn.2.2.2.2.1 k (by omega)).1) (by omega)) ((hWn.2.2.2.2.1 k (by omega)).1) rfl q833 q834 q835 q94 q836 rfl (by decide +kernel) rfl ⟨⟨Nat.le_of_ble_eq_true rfl, Nat.le_of_ble_eq_true rfl⟩, ⟨(by show (30 + 87 * k + 0 + 0) + 0 ≤ 726; omega), (by show (185 + 2612 * k + 0 + 0) + 0 ≤ 21081; omega)⟩⟩ (Nat.le_of_ble_eq_true rfl) hl.1 rfl dX2_isConsistent_60 cX_no (fun r10 σ10 H locs hp10 hW => ?_)
              obtain ⟨rfl, hs10⟩ := hp10
              rw [hs10] at hW
              refine W.eq (g2 := F0 m_ 63 ls (.int (nI ((tC v k) - (tK v k))) :: [])) rfl ?_
              refine n_if_lt (a := (tC v k) - (tK v k)) (tgt := 78) F (by omega) dX2_isConsistent_63 (by decide) ?_
              refine lv_aload_n F.x F.cd dX2_isConsistent_66 rfl (lv_at hl 0 rfl) ?_
              refine lv_iload_n F.x F.cd dX2_isConsistent_67 rfl (lv_at hl 2 rfl) ?_
              refine s_callV (As := [.int (nI k)]) (rest := []) (C := RX2) (T := TX2) (N := 6) (n := 1) F hW (k_X2_areWaysAlike g l σk L v k hWn hI (by omega)) (hWn.1) rfl q837 q839 qs6 q69 q840 rfl (by decide +kernel) rfl ⟨⟨Nat.le_of_ble_eq_true rfl, Nat.le_of_ble_eq_true rfl⟩, ⟨(by show (30 + 87 * k + 0 + 0 + 0) + 87 ≤ 726; omega), (by show (185 + 2612 * k + 0 + 0 + 0) + 2612 ≤ 21081; omega)⟩⟩ (Nat.le_of_ble_eq_true rfl) hl.1 rfl dX2_isConsistent_68 cX_no (fun r11 σ11 H locs hp11 hW => ?_)
              obtain ⟨rfl, hE11⟩ := hp11
              refine W.eq (g2 := F0 m_ 71 ls (.int (bI true) :: [])) rfl ?_
              have hWk11 := hWn.ext hE11
              have hXt11 := Ext.trans (Ext.trans (hXt4) hXk) hE11
              have hT_11 := hWk11.2.2.1
              have hP_11 := hWk11.2.2.2.1
              obtain ⟨mcT_11, nT_11, fT_11, eT_11, bT_11, -⟩ := id hT_11
              obtain ⟨mcP_11, nP_11, fP_11, eP_11, bP_11, -⟩ := id hP_11
              have hv0_11 := hI.1
              have hv1_11 := hI.2.1
              refine b_if_eq (b := true) (tgt := 78) F dX2_isConsistent_71 (by decide) (fun c_71 => ?_) (fun c_71 => ?_)
              · exact absurd c_71 (by decide)
              · refine lv_iconst (v := (nI 1)) F.x F.cd dX2_isConsistent_74 (by decide) ?_
                refine lv_goto (tgt := 79) F.x F.cd dX2_isConsistent_75 (by decide) ?_
                refine W.eq (g2 := F0 m_ 79 ls (.int (bI true) :: [])) (rfl) ?_
                refine lv_istore_n (lv' := [(1, .int (bI true)), (0, .ref (L 0)), (2, .int (nI k))]) F.x F.cd dX2_isConsistent_79 rfl hl (by decide) rfl (fun ls hl => ?_)
                refine lv_iinc (k := 2) (v := (nI (k + 1))) (lv' := [(2, .int (nI (k + 1))), (1, .int (bI true)), (0, .ref (L 0))]) F.x F.cd dX2_isConsistent_80 hl rfl (inc_nI k 1) (by decide) rfl (fun ls hl => ?_)
                refine lv_goto (tgt := 30) F.x F.cd dX2_isConsistent_83 (by decide) ?_
                refine W.widen (k := 30 + 87 * (k + 1)) (n := 185 + 2612 * (k + 1)) (by show (30 + 87 * k + 0 + 0 + 0 + 87) ≤ _; omega) (by show (185 + 2612 * k + 0 + 0 + 0 + 2612) ≤ _; omega) ?_
                exact ih30 (k + 1) σ11 (by omega) (hXk.trans hE11) H locs ls hW (lv_sub hl [2, 1, 0] rfl)
      exact loop30 (v 0) 0 _ (by omega) (Ext.refl) H locs ls hW (lv_sub hl [2, 1, 0] rfl)
