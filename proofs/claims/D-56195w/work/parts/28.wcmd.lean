/-! ===== Works: the commands ===== -/
set_option maxRecDepth 100000
set_option maxHeartbeats 4000000 in
theorem k_X1_demand (g : Gh) (l : Launch) (σ : Sto) (b : Bool) (x : Nat) (tx : String) (hx : isK g x tx) : Ct g l yX1_demand cX1_demand 2 none ({ frames := 7, cells := 1, slots := 7, locals := 150 } : Room) [.int (bI b), .ref x] σ (fun r σ' => r = none ∧ σ' = σ ∧ b = true) (fun q E σ' => b = false ∧ thr g σ tx q E σ') := by
  refine Ct.body (by decide) (Nat.le_of_ble_eq_true rfl) ?_
  intro p_ e_ s_ m_ args_ below_ meth_ c_ ls H locs Q F hW hl hQ
  have hl : lv_has ls 2 [(0, .int (bI b)), (1, .ref x)] := hl
  refine lv_iload_n F.x F.cd dX1_demand_0 rfl (lv_at hl 0 rfl) ?_
  refine b_if_ne (b := b) (tgt := 13) F dX1_demand_1 (by decide) (fun c_1 => ?_) (fun c_1 => ?_)
  · subst hQ
    exact s_retv F hW (⟨rfl, rfl, c_1⟩) ⟨(Nat.le_of_ble_eq_true rfl), (Nat.le_of_ble_eq_true rfl)⟩ dX1_demand_13
  · refine s_new F hW 15 (C := RX8) (T := TX8) (N := 7) (fs := [.null, .null, .null, .null, .null, .int (nI 0), .null]) rfl in_X8 tyX8_ok q1213 q1214 q99 (fun j hj => by rcases (show j = 0 ∨ j = 1 ∨ j = 2 ∨ j = 3 ∨ j = 4 ∨ j = 5 ∨ j = 6 by omega) with rfl | rfl | rfl | rfl | rfl | rfl | rfl <;> rfl) (Nat.le_of_ble_eq_true rfl) (Nat.le_of_ble_eq_true rfl) dX1_demand_4 (fun q1_ H hb_q1_ hn_q1_ hW => ?_)
    obtain ⟨σ2, hσ2⟩ : ∃ z, z = sset σ q1_ (.inr (15, [.null, .null, .null, .null, .null, .int (nI 0), .null])) := ⟨_, rfl⟩
    have hW : Hl g σ2 H locs := by rw [hσ2]; exact hW
    have w2 : σ2 q1_ = some (.inr (15, [.null, .null, .null, .null, .null, .int (nI 0), .null])) := by rw [hσ2]; exact sset_eq
    refine lv_dup F.x F.cd dX1_demand_7 rfl ?_
    refine lv_aload_n F.x F.cd dX1_demand_8 rfl (lv_at hl 1 rfl) ?_
    refine s_callI (As := [.ref x]) (rest := [.ref q1_]) (n := 1) F hW (k_X8_init g l σ2 q1_ x (w2) (hb_q1_)) q1222 q1223 q99 q1224 rfl (by decide +kernel) rfl ⟨⟨Nat.le_of_ble_eq_true rfl, Nat.le_of_ble_eq_true rfl⟩, ⟨(Nat.le_of_ble_eq_true rfl), (Nat.le_of_ble_eq_true rfl)⟩⟩ (Nat.le_of_ble_eq_true rfl) hl.1 rfl dX1_demand_9 cX_no (fun r3 σ3 H locs hp3 hW => ?_)
    obtain ⟨rfl, u0, sen, hσ3⟩ := hp3
    refine W.eq (g2 := F0 m_ 12 ls (.ref q1_ :: [])) rfl ?_
    have w4 : σ3 q1_ = some (.inr (15, [.null, u0.v, sen.v, .null, .null, .int (nI 0), .ref x])) := by rw [hσ3]; exact sset_eq
    refine s_athrow F dX1_demand_12 ?_
    subst hQ
    exact s_out (E := "FilterWaterworks$ConditionFailure") F hW (s_tx (C := RX8) (T := TX8) (N := 7) F hW (w4) (hb_q1_) rfl) (⟨c_1, rfl, by rw [hσ3, hσ2]; exact (Ext.refl.set hn_q1_).set hn_q1_, hb_q1_, hn_q1_, u0, sen, x, hx, w4⟩) ⟨(Nat.le_of_ble_eq_true rfl), (Nat.le_of_ble_eq_true rfl)⟩
set_option maxHeartbeats 4000000 in
theorem k_X2_minutesUntilStill (g : Gh) (l : Launch) (σ : Sto) (L v : Nat → Nat) (hWk : IsWorks g σ L v) (hI : Inv v) : Ct g l yX2_minutesUntilStill cX2_minutesUntilStill 2 (some .int) ({ frames := 6, cells := 0, slots := 0, locals := 134 } : Room) [.ref (L 0)] σ (fun r σ' => r = some (.int (msf v 0 300)) ∧ Fr g σ σ' L v) (nox) := by
  refine Ct.body (by decide) (Nat.le_of_ble_eq_true rfl) ?_
  intro p_ e_ s_ m_ args_ below_ meth_ c_ ls H locs Q F hW hl hQ
  have hl : lv_has ls 2 [(0, .ref (L 0))] := hl
  have hT := hWk.2.2.1
  have hP := hWk.2.2.2.1
  obtain ⟨mcT, nT, fT, eT, bT, -⟩ := id hT
  obtain ⟨mcP, nP, fP, eP, bP, -⟩ := id hP
  have hv0 := hI.1
  have hv1 := hI.2.1
  refine lv_iconst (v := (nI 0)) F.x F.cd dX2_minutesUntilStill_0 (by decide) ?_
  refine lv_istore_n (lv' := [(1, .int (nI 0)), (0, .ref (L 0))]) F.x F.cd dX2_minutesUntilStill_1 rfl hl (by decide) rfl (fun ls hl => ?_)
  have loop2 : ∀ (n : Nat) (k : Nat) (σk : Sto), k + n = 300 → IsWorks g σk L (mins v k) → Fr g σ σk L v → msf v k n = msf v 0 300 → ∀ (H : Heap) (locs : List Loc) (ls : Array Slot), Hl g σk H locs → lv_has ls 2 [(0, .ref (L 0)), (1, .int (nI k))] → W p_ l e_ ({ frames := 6, cells := 0, slots := 0, locals := 134 } : Room) s_ m_ args_ below_ meth_ c_ H locs 0 0 Q (F0 m_ 2 ls ([])) := by
    intro n
    induction n with
    | zero =>
      intro k σk hkn hWn hFn hfd H locs ls hW hl
      have hIn := inv_mins hI k
      have z0 : mins v k 0 = v 0 := mins_0 (by omega)
      have z1 : mins v k 1 = v 1 := mins_0 (by omega)
      have hT_k := hWn.2.2.1
      have hP_k := hWn.2.2.2.1
      obtain ⟨mcT_k, nT_k, fT_k, eT_k, bT_k, -⟩ := id hT_k
      obtain ⟨mcP_k, nP_k, fP_k, eP_k, bP_k, -⟩ := id hP_k
      have hv0_k := hIn.1
      have hv1_k := hIn.2.1
      refine lv_aload_n F.x F.cd dX2_minutesUntilStill_2 rfl (lv_at hl 0 rfl) ?_
      refine s_callV (As := []) (rest := []) (C := RX2) (T := TX2) (N := 6) (n := 0) F hW (k_X2_isStill g l σk L (mins v k) hWn hIn) (hWn.1) rfl q1762 q1763 q1764 q69 q1765 rfl (by decide +kernel) rfl ⟨⟨Nat.le_of_ble_eq_true rfl, Nat.le_of_ble_eq_true rfl⟩, ⟨(Nat.le_of_ble_eq_true rfl), (Nat.le_of_ble_eq_true rfl)⟩⟩ (Nat.le_of_ble_eq_true rfl) hl.1 rfl dX2_minutesUntilStill_3 cX_no (fun r1 σ1 H locs hp1 hW => ?_)
      obtain ⟨rfl, hs1⟩ := hp1
      rw [hs1] at hW
      refine W.eq (g2 := F0 m_ 6 ls (.int (bI (stillN (mins v k) ((mins v k) 1))) :: [])) rfl ?_
      refine b_if_ne (b := (stillN (mins v k) ((mins v k) 1))) (tgt := 26) F dX2_minutesUntilStill_6 (by decide) (fun c_6 => ?_) (fun c_6 => ?_)
      · refine lv_aload_n F.x F.cd dX2_minutesUntilStill_26 rfl (lv_at hl 0 rfl) ?_
        refine s_callV (As := []) (rest := []) (C := RX2) (T := TX2) (N := 6) (n := 0) F hW (k_X2_isStill g l σk L (mins v k) hWn hIn) (hWn.1) rfl q1762 q1763 q1764 q69 q1765 rfl (by decide +kernel) rfl ⟨⟨Nat.le_of_ble_eq_true rfl, Nat.le_of_ble_eq_true rfl⟩, ⟨(Nat.le_of_ble_eq_true rfl), (Nat.le_of_ble_eq_true rfl)⟩⟩ (Nat.le_of_ble_eq_true rfl) hl.1 rfl dX2_minutesUntilStill_27 cX_no (fun r2 σ2 H locs hp2 hW => ?_)
        obtain ⟨rfl, hs2⟩ := hp2
        rw [hs2] at hW
        refine W.eq (g2 := F0 m_ 30 ls (.int (bI (stillN (mins v k) ((mins v k) 1))) :: [])) rfl ?_
        refine b_if_eq (b := (stillN (mins v k) ((mins v k) 1))) (tgt := 37) F dX2_minutesUntilStill_30 (by decide) (fun c_30 => ?_) (fun c_30 => ?_)
        · refine lv_iconst (v := (-1 : Int32)) F.x F.cd dX2_minutesUntilStill_37 (by decide) ?_
          subst hQ
          exact s_reti (v := (-1 : Int32)) F hW rfl (⟨by rw [← hfd]; first | exact absurd (c_6.symm.trans c_30) (by decide) | (rw [msf_0 c_30]), hFn⟩) ⟨(Nat.le_of_ble_eq_true rfl), (Nat.le_of_ble_eq_true rfl)⟩ dX2_minutesUntilStill_38
        · refine lv_iload_n F.x F.cd dX2_minutesUntilStill_33 rfl (lv_at hl 1 rfl) ?_
          refine lv_goto (tgt := 38) F.x F.cd dX2_minutesUntilStill_34 (by decide) ?_
          subst hQ
          exact s_reti (v := (nI k)) F hW rfl (⟨by rw [← hfd, msf_t c_30], hFn⟩) ⟨(Nat.le_of_ble_eq_true rfl), (Nat.le_of_ble_eq_true rfl)⟩ dX2_minutesUntilStill_38
      · refine lv_iload_n F.x F.cd dX2_minutesUntilStill_9 rfl (lv_at hl 1 rfl) ?_
        refine lv_sipush (v := (nI 300)) F.x F.cd dX2_minutesUntilStill_10 (by decide) ?_
        refine n_icmp_ge (a := k) (b := 300) (tgt := 26) F (by omega) (by omega) dX2_minutesUntilStill_13 (by decide) (fun c_13 => ?_) (fun c_13 => ?_)
        · refine lv_aload_n F.x F.cd dX2_minutesUntilStill_26 rfl (lv_at hl 0 rfl) ?_
          refine s_callV (As := []) (rest := []) (C := RX2) (T := TX2) (N := 6) (n := 0) F hW (k_X2_isStill g l σk L (mins v k) hWn hIn) (hWn.1) rfl q1762 q1763 q1764 q69 q1765 rfl (by decide +kernel) rfl ⟨⟨Nat.le_of_ble_eq_true rfl, Nat.le_of_ble_eq_true rfl⟩, ⟨(Nat.le_of_ble_eq_true rfl), (Nat.le_of_ble_eq_true rfl)⟩⟩ (Nat.le_of_ble_eq_true rfl) hl.1 rfl dX2_minutesUntilStill_27 cX_no (fun r3 σ3 H locs hp3 hW => ?_)
          obtain ⟨rfl, hs3⟩ := hp3
          rw [hs3] at hW
          refine W.eq (g2 := F0 m_ 30 ls (.int (bI (stillN (mins v k) ((mins v k) 1))) :: [])) rfl ?_
          refine b_if_eq (b := (stillN (mins v k) ((mins v k) 1))) (tgt := 37) F dX2_minutesUntilStill_30 (by decide) (fun c_30 => ?_) (fun c_30 => ?_)
          · refine lv_iconst (v := (-1 : Int32)) F.x F.cd dX2_minutesUntilStill_37 (by decide) ?_
            subst hQ
            exact s_reti (v := (-1 : Int32)) F hW rfl (⟨by rw [← hfd]; first | exact absurd (c_6.symm.trans c_30) (by decide) | (rw [msf_0 c_30]), hFn⟩) ⟨(Nat.le_of_ble_eq_true rfl), (Nat.le_of_ble_eq_true rfl)⟩ dX2_minutesUntilStill_38
          · refine lv_iload_n F.x F.cd dX2_minutesUntilStill_33 rfl (lv_at hl 1 rfl) ?_
            refine lv_goto (tgt := 38) F.x F.cd dX2_minutesUntilStill_34 (by decide) ?_
            subst hQ
            exact s_reti (v := (nI k)) F hW rfl (⟨by rw [← hfd, msf_t c_30], hFn⟩) ⟨(Nat.le_of_ble_eq_true rfl), (Nat.le_of_ble_eq_true rfl)⟩ dX2_minutesUntilStill_38
        · exact absurd c_13 (by omega)
    | succ n ih2 =>
      intro k σk hkn hWn hFn hfd H locs ls hW hl
      have hIn := inv_mins hI k
      have z0 : mins v k 0 = v 0 := mins_0 (by omega)
      have z1 : mins v k 1 = v 1 := mins_0 (by omega)
      have hT_k := hWn.2.2.1
      have hP_k := hWn.2.2.2.1
      obtain ⟨mcT_k, nT_k, fT_k, eT_k, bT_k, -⟩ := id hT_k
      obtain ⟨mcP_k, nP_k, fP_k, eP_k, bP_k, -⟩ := id hP_k
      have hv0_k := hIn.1
      have hv1_k := hIn.2.1
      refine lv_aload_n F.x F.cd dX2_minutesUntilStill_2 rfl (lv_at hl 0 rfl) ?_
      refine s_callV (As := []) (rest := []) (C := RX2) (T := TX2) (N := 6) (n := 0) F hW (k_X2_isStill g l σk L (mins v k) hWn hIn) (hWn.1) rfl q1762 q1763 q1764 q69 q1765 rfl (by decide +kernel) rfl ⟨⟨Nat.le_of_ble_eq_true rfl, Nat.le_of_ble_eq_true rfl⟩, ⟨(Nat.le_of_ble_eq_true rfl), (Nat.le_of_ble_eq_true rfl)⟩⟩ (Nat.le_of_ble_eq_true rfl) hl.1 rfl dX2_minutesUntilStill_3 cX_no (fun r4 σ4 H locs hp4 hW => ?_)
      obtain ⟨rfl, hs4⟩ := hp4
      rw [hs4] at hW
      refine W.eq (g2 := F0 m_ 6 ls (.int (bI (stillN (mins v k) ((mins v k) 1))) :: [])) rfl ?_
      refine b_if_ne (b := (stillN (mins v k) ((mins v k) 1))) (tgt := 26) F dX2_minutesUntilStill_6 (by decide) (fun c_6 => ?_) (fun c_6 => ?_)
      · refine lv_aload_n F.x F.cd dX2_minutesUntilStill_26 rfl (lv_at hl 0 rfl) ?_
        refine s_callV (As := []) (rest := []) (C := RX2) (T := TX2) (N := 6) (n := 0) F hW (k_X2_isStill g l σk L (mins v k) hWn hIn) (hWn.1) rfl q1762 q1763 q1764 q69 q1765 rfl (by decide +kernel) rfl ⟨⟨Nat.le_of_ble_eq_true rfl, Nat.le_of_ble_eq_true rfl⟩, ⟨(Nat.le_of_ble_eq_true rfl), (Nat.le_of_ble_eq_true rfl)⟩⟩ (Nat.le_of_ble_eq_true rfl) hl.1 rfl dX2_minutesUntilStill_27 cX_no (fun r5 σ5 H locs hp5 hW => ?_)
        obtain ⟨rfl, hs5⟩ := hp5
        rw [hs5] at hW
        refine W.eq (g2 := F0 m_ 30 ls (.int (bI (stillN (mins v k) ((mins v k) 1))) :: [])) rfl ?_
        refine b_if_eq (b := (stillN (mins v k) ((mins v k) 1))) (tgt := 37) F dX2_minutesUntilStill_30 (by decide) (fun c_30 => ?_) (fun c_30 => ?_)
        · refine lv_iconst (v := (-1 : Int32)) F.x F.cd dX2_minutesUntilStill_37 (by decide) ?_
          subst hQ
          exact s_reti (v := (-1 : Int32)) F hW rfl (⟨by rw [← hfd]; first | exact absurd (c_6.symm.trans c_30) (by decide) | (rw [msf_0 c_30]), hFn⟩) ⟨(Nat.le_of_ble_eq_true rfl), (Nat.le_of_ble_eq_true rfl)⟩ dX2_minutesUntilStill_38
        · refine lv_iload_n F.x F.cd dX2_minutesUntilStill_33 rfl (lv_at hl 1 rfl) ?_
          refine lv_goto (tgt := 38) F.x F.cd dX2_minutesUntilStill_34 (by decide) ?_
          subst hQ
          exact s_reti (v := (nI k)) F hW rfl (⟨by rw [← hfd, msf_t c_30], hFn⟩) ⟨(Nat.le_of_ble_eq_true rfl), (Nat.le_of_ble_eq_true rfl)⟩ dX2_minutesUntilStill_38
      · refine lv_iload_n F.x F.cd dX2_minutesUntilStill_9 rfl (lv_at hl 1 rfl) ?_
        refine lv_sipush (v := (nI 300)) F.x F.cd dX2_minutesUntilStill_10 (by decide) ?_
        refine n_icmp_ge (a := k) (b := 300) (tgt := 26) F (by omega) (by omega) dX2_minutesUntilStill_13 (by decide) (fun c_13 => ?_) (fun c_13 => ?_)
        · exact absurd c_13 (by omega)
        · refine lv_aload_n F.x F.cd dX2_minutesUntilStill_16 rfl (lv_at hl 0 rfl) ?_
          refine s_callV (As := []) (rest := []) (C := RX2) (T := TX2) (N := 6) (n := 0) F hW (k_X2_passMinute g l σk L (mins v k) hWn hIn) (hWn.1) rfl q1294 q1296 qs12 q69 q1297 rfl (by decide +kernel) rfl ⟨⟨Nat.le_of_ble_eq_true rfl, Nat.le_of_ble_eq_true rfl⟩, ⟨(Nat.le_of_ble_eq_true rfl), (Nat.le_of_ble_eq_true rfl)⟩⟩ (Nat.le_of_ble_eq_true rfl) hl.1 rfl dX2_minutesUntilStill_17 cX_no (fun r6 σ6 H locs hp6 hW => ?_)
          obtain ⟨rfl, hWp, hFp⟩ := hp6
          refine W.eq (g2 := F0 m_ 20 ls ([])) rfl ?_
          refine lv_iinc (k := 1) (v := (nI (k + 1))) (lv' := [(1, .int (nI (k + 1))), (0, .ref (L 0))]) F.x F.cd dX2_minutesUntilStill_20 hl rfl (inc_nI k 1) (by decide) rfl (fun ls hl => ?_)
          refine lv_goto (tgt := 2) F.x F.cd dX2_minutesUntilStill_23 (by decide) ?_
          exact ih2 (k + 1) σ6 (by omega) (hWp) (hFn.trans hFp z0 z1) (by rw [← hfd]; exact (msf_f c_6).symm) H locs ls hW (lv_sub hl [1, 0] rfl)
  exact loop2 (300) 0 _ (by omega) (hWk) (Fr.refl) (rfl) H locs ls hW (lv_sub hl [1, 0] rfl)
set_option maxHeartbeats 4000000 in
theorem k_X2_pour (g : Gh) (l : Launch) (σ : Sto) (L v : Nat → Nat) (x y s : Int32) (hWk : IsWorks g σ L v) (hI : Inv v) : Ct g l yX2_pour cX2_pour 5 (some .int) ({ frames := 8, cells := 3, slots := 21, locals := 171 } : Room) [.ref (L 0), .int x, .int y, .int s] σ (fun r σ' => ∃ z v', pourR v x y s = .ok (z, v') ∧ r = some (.int z) ∧ Did g σ L v σ' v') (fun q E σ' => ∃ tx, pourR v x y s = .error tx ∧ thr g σ tx q E σ') := by
  refine Ct.body (by decide) (Nat.le_of_ble_eq_true rfl) ?_
  intro p_ e_ s_ m_ args_ below_ meth_ c_ ls H locs Q F hW hl hQ
  have hl : lv_has ls 5 [(0, .ref (L 0)), (1, .int x), (2, .int y), (3, .int s)] := hl
  have hT := hWk.2.2.1
  have hP := hWk.2.2.2.1
  obtain ⟨mcT, nT, fT, eT, bT, -⟩ := id hT
  obtain ⟨mcP, nP, fP, eP, bP, -⟩ := id hP
  have hv0 := hI.1
  have hv1 := hI.2.1
  refine lv_aload_n F.x F.cd dX2_pour_0 rfl (lv_at hl 0 rfl) ?_
  refine lv_iload_n F.x F.cd dX2_pour_1 rfl (lv_at hl 1 rfl) ?_
  refine s_callV (As := [.int x]) (rest := []) (C := RX2) (T := TX2) (N := 6) (n := 1) F hW (k_X2_hasTank g l σ L v x hWk hI) (hWk.1) rfl q1247 q1248 q1249 q69 q1250 rfl (by decide +kernel) rfl ⟨⟨Nat.le_of_ble_eq_true rfl, Nat.le_of_ble_eq_true rfl⟩, ⟨(Nat.le_of_ble_eq_true rfl), (Nat.le_of_ble_eq_true rfl)⟩⟩ (Nat.le_of_ble_eq_true rfl) hl.1 rfl dX2_pour_2 cX_no (fun r1 σ1 H locs hp1 hW => ?_)
  obtain ⟨rfl, hs1⟩ := hp1
  rw [hs1] at hW
  refine W.eq (g2 := F0 m_ 5 ls (.int (bI (inN x (v 0))) :: [])) rfl ?_
  refine s_ldcS F q1251 dX2_pour_5 ?_
  refine s_callSN (As := [.int (bI (inN x (v 0))), .ref (gS g "FilterWaterworks$Works" 79)]) (rest := []) (n := 2) F hW (k_X1_demand g l σ (inN x (v 0)) (gS g "FilterWaterworks$Works" 79) "index" ⟨"FilterWaterworks$Works", 79, q1251, rfl⟩) q1210 q1211 q68 q1212 (by decide +kernel) rfl ⟨⟨Nat.le_of_ble_eq_true rfl, Nat.le_of_ble_eq_true rfl⟩, ⟨(Nat.le_of_ble_eq_true rfl), (Nat.le_of_ble_eq_true rfl)⟩⟩ (Nat.le_of_ble_eq_true rfl) hl.1 rfl dX2_pour_7 (by subst hQ; exact cX_out F ⟨(Nat.le_of_ble_eq_true rfl), (Nat.le_of_ble_eq_true rfl)⟩ (fun q9 E9 σ9 hp9 => ⟨"index", by rw [pourR, if_neg (by rw [hp9.1]; decide)], hp9.2⟩)) (fun r2 σ2 H locs hp2 hW => ?_)
  obtain ⟨rfl, hs2, hd7⟩ := hp2
  rw [hs2] at hW
  refine W.eq (g2 := F0 m_ 10 ls ([])) rfl ?_
  obtain ⟨i, hi, rfl⟩ := (inN_iff (show v 0 < 2 ^ 30 by omega)).mp hd7
  refine lv_iload_n F.x F.cd dX2_pour_10 rfl (lv_at hl 2 rfl) ?_
  refine lv_iconst (v := (nI 1)) F.x F.cd dX2_pour_11 (by decide) ?_
  refine lv_sipush (v := (nI 999)) F.x F.cd dX2_pour_12 (by decide) ?_
  refine s_callSN (As := [.int y, .int (nI 1), .int (nI 999)]) (rest := []) (n := 3) F hW (k_X1_isBetween g l σ y (nI 1) (nI 999)) q1206 q1207 q68 q1208 (by decide +kernel) rfl ⟨⟨Nat.le_of_ble_eq_true rfl, Nat.le_of_ble_eq_true rfl⟩, ⟨(Nat.le_of_ble_eq_true rfl), (Nat.le_of_ble_eq_true rfl)⟩⟩ (Nat.le_of_ble_eq_true rfl) hl.1 rfl dX2_pour_15 cX_no (fun r3 σ3 H locs hp3 hW => ?_)
  obtain ⟨rfl, hs3⟩ := hp3
  rw [hs3] at hW
  refine W.eq (g2 := F0 m_ 18 ls (.int (bI (btw y (nI 1) (nI 999))) :: [])) rfl ?_
  refine b_if_eq (b := (btw y (nI 1) (nI 999))) (tgt := 32) F dX2_pour_18 (by decide) (fun c_18 => ?_) (fun c_18 => ?_)
  · refine lv_iconst (v := (nI 0)) F.x F.cd dX2_pour_32 (by decide) ?_
    refine W.eq (g2 := F0 m_ 33 ls (.int (bI (btw y (nI 1) (nI 999) && btw s (nI 0) (nI 255))) :: [])) (by rw [show (btw y (nI 1) (nI 999) && btw s (nI 0) (nI 255)) = false by simp [c_18]]; rfl) ?_
    refine s_ldcS F q1209 dX2_pour_33 ?_
    refine s_callSN (As := [.int (bI (btw y (nI 1) (nI 999) && btw s (nI 0) (nI 255))), .ref (gS g "FilterWaterworks$Works" 64)]) (rest := []) (n := 2) F hW (k_X1_demand g l σ (btw y (nI 1) (nI 999) && btw s (nI 0) (nI 255)) (gS g "FilterWaterworks$Works" 64) "argument" ⟨"FilterWaterworks$Works", 64, q1209, rfl⟩) q1210 q1211 q68 q1212 (by decide +kernel) rfl ⟨⟨Nat.le_of_ble_eq_true rfl, Nat.le_of_ble_eq_true rfl⟩, ⟨(Nat.le_of_ble_eq_true rfl), (Nat.le_of_ble_eq_true rfl)⟩⟩ (Nat.le_of_ble_eq_true rfl) hl.1 rfl dX2_pour_35 (by subst hQ; exact cX_out F ⟨(Nat.le_of_ble_eq_true rfl), (Nat.le_of_ble_eq_true rfl)⟩ (fun q9 E9 σ9 hp9 => ⟨"argument", by rw [pourR, if_pos hd7, if_neg (by rw [hp9.1]; decide)], hp9.2⟩)) (fun r4 σ4 H locs hp4 hW => ?_)
    obtain ⟨rfl, hs4, hd35⟩ := hp4
    rw [hs4] at hW
    refine W.eq (g2 := F0 m_ 38 ls ([])) rfl ?_
    have hd35a := hd35
    rw [Bool.and_eq_true] at hd35a
    obtain ⟨hy9, hs9⟩ := hd35a
    obtain ⟨n, hn1, hn2, rfl⟩ := (btw_iff (by decide) (by decide)).mp hy9
    obtain ⟨k, hk1, hk2, rfl⟩ := (btw_iff (by decide) (by decide)).mp hs9
    have hti := hI.tk hi
    refine lv_aload_n F.x F.cd dX2_pour_38 rfl (lv_at hl 0 rfl) ?_
    refine s_get F hW (ci := 1) (C := RX2) (T := TX2) (N := 6) (v := .ref (L 1)) (hWk.1) rfl in_X2 0 (by decide) q159 (fun _ h9 => h9) rfl dX2_pour_39 ?_
    refine lv_iload_n F.x F.cd dX2_pour_42 rfl (lv_at hl 1 rfl) ?_
    refine s_callF (As := [.int (nI i)]) (rest := []) (C := RJ2) (T := TJ2) (N := 3) (n := 1) F hW (k_J2_get g l σ _ _ _ _ i hT (by omega)) (eT) rfl (List.mem_of_getElem? (i := 1) rfl) q693 q328 q330 q72 q332 (by decide +kernel) rfl ⟨⟨Nat.le_of_ble_eq_true rfl, Nat.le_of_ble_eq_true rfl⟩, ⟨(Nat.le_of_ble_eq_true rfl), (Nat.le_of_ble_eq_true rfl)⟩⟩ (Nat.le_of_ble_eq_true rfl) hl.1 rfl dX2_pour_43 cX_no (fun r5 σ5 H locs hp5 hW => ?_)
    obtain ⟨rfl, hs5⟩ := hp5
    rw [hs5] at hW
    refine W.eq (g2 := F0 m_ 48 ls (.ref (L (10 + i)) :: [])) rfl ?_
    refine s_cast_ F hW (C := RX4) (T := TX4) (N := 3) ((hWk.2.2.2.2.1 i (by omega)).1) rfl q790 dX2_pour_48 ?_
    refine lv_astore (lv' := [(4, .ref (L (10 + i))), (0, .ref (L 0)), (1, .int (nI i)), (2, .int (nI n)), (3, .int (nI k))]) F.x F.cd dX2_pour_51 hl (by decide) rfl (fun ls hl => ?_)
    refine lv_iload_n F.x F.cd dX2_pour_53 rfl (lv_at hl 3 rfl) ?_
    refine lv_aload F.x F.cd dX2_pour_54 (lv_at hl 0 rfl) ?_
    refine s_callV (As := []) (rest := [.int (nI n)]) (C := RX4) (T := TX4) (N := 3) (n := 0) F hW (k_X4_room g l σ (L (10 + i)) (tC v i) (tK v i) (tI v i) ((hWk.2.2.2.2.1 i (by omega)).1) (by omega)) ((hWk.2.2.2.2.1 i (by omega)).1) rfl q833 q834 q835 q94 q836 rfl (by decide +kernel) rfl ⟨⟨Nat.le_of_ble_eq_true rfl, Nat.le_of_ble_eq_true rfl⟩, ⟨(Nat.le_of_ble_eq_true rfl), (Nat.le_of_ble_eq_true rfl)⟩⟩ (Nat.le_of_ble_eq_true rfl) hl.1 rfl dX2_pour_56 cX_no (fun r6 σ6 H locs hp6 hW => ?_)
    obtain ⟨rfl, hs6⟩ := hp6
    rw [hs6] at hW
    refine W.eq (g2 := F0 m_ 59 ls (.int (nI ((tC v i) - (tK v i))) :: .int (nI n) :: [])) rfl ?_
    refine n_icmp_gt (a := n) (b := (tC v i) - (tK v i)) (tgt := 66) F (by omega) (by omega) dX2_pour_59 (by decide) (fun c_59 => ?_) (fun c_59 => ?_)
    · refine lv_iconst (v := (nI 0)) F.x F.cd dX2_pour_66 (by decide) ?_
      refine W.eq (g2 := F0 m_ 67 ls (.int (bI (decide (n ≤ tC v i - tK v i))) :: [])) (by rw [show decide (n ≤ tC v i - tK v i) = false by simp; omega]; rfl) ?_
      refine s_ldcS F q1261 dX2_pour_67 ?_
      refine s_callSN (As := [.int (bI (decide (n ≤ tC v i - tK v i))), .ref (gS g "FilterWaterworks$Works" 90)]) (rest := []) (n := 2) F hW (k_X1_demand g l σ (decide (n ≤ tC v i - tK v i)) (gS g "FilterWaterworks$Works" 90) "rule" ⟨"FilterWaterworks$Works", 90, q1261, rfl⟩) q1210 q1211 q68 q1212 (by decide +kernel) rfl ⟨⟨Nat.le_of_ble_eq_true rfl, Nat.le_of_ble_eq_true rfl⟩, ⟨(Nat.le_of_ble_eq_true rfl), (Nat.le_of_ble_eq_true rfl)⟩⟩ (Nat.le_of_ble_eq_true rfl) hl.1 rfl dX2_pour_69 (by subst hQ; exact cX_out F ⟨(Nat.le_of_ble_eq_true rfl), (Nat.le_of_ble_eq_true rfl)⟩ (fun q9 E9 σ9 hp9 => ⟨"rule", by rw [pourR, if_pos hd7, if_pos hd35, cl_nI (by omega), cl_nI (by omega), if_neg (of_decide_eq_false hp9.1)], hp9.2⟩)) (fun r7 σ7 H locs hp7 hW => ?_)
      obtain ⟨rfl, hs7, hd69⟩ := hp7
      rw [hs7] at hW
      refine W.eq (g2 := F0 m_ 72 ls ([])) rfl ?_
      refine lv_aload F.x F.cd dX2_pour_72 (lv_at hl 0 rfl) ?_
      refine lv_iload_n F.x F.cd dX2_pour_74 rfl (lv_at hl 3 rfl) ?_
      refine lv_iload_n F.x F.cd dX2_pour_75 rfl (lv_at hl 4 rfl) ?_
      refine s_callV (As := [.int (nI n), .int (nI k)]) (rest := []) (C := RX4) (T := TX4) (N := 3) (n := 2) F hW (k_X4_fill g l σ (L (10 + i)) (tC v i) (tK v i) (tI v i) n k ((hWk.2.2.2.2.1 i (by omega)).1) ((hWk.2.2.2.2.1 i (by omega)).2) ) ((hWk.2.2.2.2.1 i (by omega)).1) rfl q1262 q1263 q1264 q94 q1265 rfl (by decide +kernel) rfl ⟨⟨Nat.le_of_ble_eq_true rfl, Nat.le_of_ble_eq_true rfl⟩, ⟨(Nat.le_of_ble_eq_true rfl), (Nat.le_of_ble_eq_true rfl)⟩⟩ (Nat.le_of_ble_eq_true rfl) hl.1 rfl dX2_pour_76 cX_no (fun r8 σ8 H locs hp8 hW => ?_)
      obtain ⟨rfl, hσ8⟩ := hp8
      refine W.eq (g2 := F0 m_ 79 ls ([])) rfl ?_
      have w9 : σ8 (L (10 + i)) = some (.inr (8, [.int (nI (tC v i)), .int (nI (tK v i + n)), .int (nI ((tI v i) ||| k))])) := by rw [hσ8]; exact sset_eq
      have f10 : σ8 (L 0) = some (.inr (1, [.ref (L 1), .ref (L 2), .int (nI (v 2)), .int (nI (v 3)), .int (nI (v 4)), .int (nI (v 5))])) := by rw [hσ8, sset_ne (sto_ne ((hWk.2.2.2.2.1 i (by omega)).1) hWk.1 (by simp))]; exact hWk.1
      have f11 : σ8 (L 1) = some (.inr (2, [.int mcT, .ref (L 3), .int (nI (v 0))])) := by rw [hσ8, sset_ne (sto_ne ((hWk.2.2.2.2.1 i (by omega)).1) eT (by simp))]; exact eT
      have j12 := IsList.setO (e := .inr (8, [.int (nI (tC v i)), .int (nI (tK v i + n)), .int (nI ((tI v i) ||| k))])) (hT) ((hWk.2.2.2.2.1 i (by omega)).1) (by decide)
      rw [← hσ8] at j12
      have f13 : σ8 (L 2) = some (.inr (2, [.int mcP, .ref (L 4), .int (nI (v 1))])) := by rw [hσ8, sset_ne (sto_ne ((hWk.2.2.2.2.1 i (by omega)).1) eP (by simp))]; exact eP
      have j14 := IsList.setO (e := .inr (8, [.int (nI (tC v i)), .int (nI (tK v i + n)), .int (nI ((tI v i) ||| k))])) (hP) ((hWk.2.2.2.2.1 i (by omega)).1) (by decide)
      rw [← hσ8] at j14
      refine lv_aload_n F.x F.cd dX2_pour_79 rfl (lv_at hl 1 rfl) ?_
      refine lv_dup F.x F.cd dX2_pour_80 rfl ?_
      refine s_get F hW (ci := 1) (C := RX2) (T := TX2) (N := 6) (v := .int (nI (v 3))) (f10) rfl in_X2 3 (by decide) q168 (fun _ h9 => h9) rfl dX2_pour_81 ?_
      refine lv_iload_n F.x F.cd dX2_pour_84 rfl (lv_at hl 3 rfl) ?_
      refine a_iadd (v := (nI (v 3 + n))) F (nI_add _ _) dX2_pour_85 ?_
      refine s_put F hW (ci := 1) (C := RX2) (T := TX2) (N := 6) (v := .int (nI (v 3 + n))) (ty := .int) (f10) (hWk.2.1) rfl in_X2 tyX2_ok nmX2 3 (by decide) q168 (fun _ h9 => h9) rfl (by decide +kernel) rfl rfl (Nat.le_of_ble_eq_true rfl) dX2_pour_86 (fun H locs hW => ?_)
      obtain ⟨σ16, hσ16⟩ : ∃ z, z = sset σ8 (L 0) (.inr (1, [.ref (L 1), .ref (L 2), .int (nI (v 2)), .int (nI (v 3 + n)), .int (nI (v 4)), .int (nI (v 5))])) := ⟨_, rfl⟩
      have hW : Hl g σ16 H locs := by rw [hσ16]; exact hW
      have w16 : σ16 (L 0) = some (.inr (1, [.ref (L 1), .ref (L 2), .int (nI (v 2)), .int (nI (v 3 + n)), .int (nI (v 4)), .int (nI (v 5))])) := by rw [hσ16]; exact sset_eq
      have f17 : σ16 (L 1) = some (.inr (2, [.int mcT, .ref (L 3), .int (nI (v 0))])) := by rw [hσ16, sset_ne (sto_ne f10 f11 (by simp))]; exact f11
      have j18 := IsList.setO (e := .inr (1, [.ref (L 1), .ref (L 2), .int (nI (v 2)), .int (nI (v 3 + n)), .int (nI (v 4)), .int (nI (v 5))])) (j12) (f10) (by decide)
      rw [← hσ16] at j18
      have f19 : σ16 (L 2) = some (.inr (2, [.int mcP, .ref (L 4), .int (nI (v 1))])) := by rw [hσ16, sset_ne (sto_ne f10 f13 (by simp))]; exact f13
      have j20 := IsList.setO (e := .inr (1, [.ref (L 1), .ref (L 2), .int (nI (v 2)), .int (nI (v 3 + n)), .int (nI (v 4)), .int (nI (v 5))])) (j14) (f10) (by decide)
      rw [← hσ16] at j20
      have f21 : σ16 (L (10 + i)) = some (.inr (8, [.int (nI (tC v i)), .int (nI (tK v i + n)), .int (nI ((tI v i) ||| k))])) := by rw [hσ16, sset_ne (sto_ne f10 w9 (by simp))]; exact w9
      refine lv_aload F.x F.cd dX2_pour_89 (lv_at hl 0 rfl) ?_
      refine s_getN F hW (ci := 8) (C := RX4) (T := TX4) (N := 3) (v := .int (nI (tK v i + n))) (f21) rfl in_X4 1 (by decide) q951 (fun _ h9 => h9) rfl dX2_pour_91 ?_
      subst hQ
      exact s_reti (v := (nI (tK v i + n))) F hW rfl (⟨_, _, by rw [pourR, if_pos hd7, if_pos hd35, cl_nI (by omega), cl_nI (by omega), cl_nI (by omega), if_pos (of_decide_eq_true hd69)], rfl, Did.of (by rw [hσ16, hσ8]; exact (hWk.setT hi (by omega)).setW (by rw [upT_lo (by omega)]; exact hI.1)) (by rw [hσ16, hσ8]; exact (Fr.refl.set (hWk.foT hi)).set hWk.foW) (by rw [pourV, upW_lo (by omega), upT_lo (by omega)]) (by rw [pourV, upW_lo (by omega), upT_lo (by omega)])⟩) ⟨(Nat.le_of_ble_eq_true rfl), (Nat.le_of_ble_eq_true rfl)⟩ dX2_pour_94
    · refine lv_iconst (v := (nI 1)) F.x F.cd dX2_pour_62 (by decide) ?_
      refine lv_goto (tgt := 67) F.x F.cd dX2_pour_63 (by decide) ?_
      refine W.eq (g2 := F0 m_ 67 ls (.int (bI (decide (n ≤ tC v i - tK v i))) :: [])) (by rw [show decide (n ≤ tC v i - tK v i) = true by simp; omega]; rfl) ?_
      refine s_ldcS F q1261 dX2_pour_67 ?_
      refine s_callSN (As := [.int (bI (decide (n ≤ tC v i - tK v i))), .ref (gS g "FilterWaterworks$Works" 90)]) (rest := []) (n := 2) F hW (k_X1_demand g l σ (decide (n ≤ tC v i - tK v i)) (gS g "FilterWaterworks$Works" 90) "rule" ⟨"FilterWaterworks$Works", 90, q1261, rfl⟩) q1210 q1211 q68 q1212 (by decide +kernel) rfl ⟨⟨Nat.le_of_ble_eq_true rfl, Nat.le_of_ble_eq_true rfl⟩, ⟨(Nat.le_of_ble_eq_true rfl), (Nat.le_of_ble_eq_true rfl)⟩⟩ (Nat.le_of_ble_eq_true rfl) hl.1 rfl dX2_pour_69 (by subst hQ; exact cX_out F ⟨(Nat.le_of_ble_eq_true rfl), (Nat.le_of_ble_eq_true rfl)⟩ (fun q9 E9 σ9 hp9 => ⟨"rule", by rw [pourR, if_pos hd7, if_pos hd35, cl_nI (by omega), cl_nI (by omega), if_neg (of_decide_eq_false hp9.1)], hp9.2⟩)) (fun r22 σ22 H locs hp22 hW => ?_)
      obtain ⟨rfl, hs22, hd69⟩ := hp22
      rw [hs22] at hW
      refine W.eq (g2 := F0 m_ 72 ls ([])) rfl ?_
      refine lv_aload F.x F.cd dX2_pour_72 (lv_at hl 0 rfl) ?_
      refine lv_iload_n F.x F.cd dX2_pour_74 rfl (lv_at hl 3 rfl) ?_
      refine lv_iload_n F.x F.cd dX2_pour_75 rfl (lv_at hl 4 rfl) ?_
      refine s_callV (As := [.int (nI n), .int (nI k)]) (rest := []) (C := RX4) (T := TX4) (N := 3) (n := 2) F hW (k_X4_fill g l σ (L (10 + i)) (tC v i) (tK v i) (tI v i) n k ((hWk.2.2.2.2.1 i (by omega)).1) ((hWk.2.2.2.2.1 i (by omega)).2) ) ((hWk.2.2.2.2.1 i (by omega)).1) rfl q1262 q1263 q1264 q94 q1265 rfl (by decide +kernel) rfl ⟨⟨Nat.le_of_ble_eq_true rfl, Nat.le_of_ble_eq_true rfl⟩, ⟨(Nat.le_of_ble_eq_true rfl), (Nat.le_of_ble_eq_true rfl)⟩⟩ (Nat.le_of_ble_eq_true rfl) hl.1 rfl dX2_pour_76 cX_no (fun r23 σ23 H locs hp23 hW => ?_)
      obtain ⟨rfl, hσ23⟩ := hp23
      refine W.eq (g2 := F0 m_ 79 ls ([])) rfl ?_
      have w24 : σ23 (L (10 + i)) = some (.inr (8, [.int (nI (tC v i)), .int (nI (tK v i + n)), .int (nI ((tI v i) ||| k))])) := by rw [hσ23]; exact sset_eq
      have f25 : σ23 (L 0) = some (.inr (1, [.ref (L 1), .ref (L 2), .int (nI (v 2)), .int (nI (v 3)), .int (nI (v 4)), .int (nI (v 5))])) := by rw [hσ23, sset_ne (sto_ne ((hWk.2.2.2.2.1 i (by omega)).1) hWk.1 (by simp))]; exact hWk.1
      have f26 : σ23 (L 1) = some (.inr (2, [.int mcT, .ref (L 3), .int (nI (v 0))])) := by rw [hσ23, sset_ne (sto_ne ((hWk.2.2.2.2.1 i (by omega)).1) eT (by simp))]; exact eT
      have j27 := IsList.setO (e := .inr (8, [.int (nI (tC v i)), .int (nI (tK v i + n)), .int (nI ((tI v i) ||| k))])) (hT) ((hWk.2.2.2.2.1 i (by omega)).1) (by decide)
      rw [← hσ23] at j27
      have f28 : σ23 (L 2) = some (.inr (2, [.int mcP, .ref (L 4), .int (nI (v 1))])) := by rw [hσ23, sset_ne (sto_ne ((hWk.2.2.2.2.1 i (by omega)).1) eP (by simp))]; exact eP
      have j29 := IsList.setO (e := .inr (8, [.int (nI (tC v i)), .int (nI (tK v i + n)), .int (nI ((tI v i) ||| k))])) (hP) ((hWk.2.2.2.2.1 i (by omega)).1) (by decide)
      rw [← hσ23] at j29
      refine lv_aload_n F.x F.cd dX2_pour_79 rfl (lv_at hl 1 rfl) ?_
      refine lv_dup F.x F.cd dX2_pour_80 rfl ?_
      refine s_get F hW (ci := 1) (C := RX2) (T := TX2) (N := 6) (v := .int (nI (v 3))) (f25) rfl in_X2 3 (by decide) q168 (fun _ h9 => h9) rfl dX2_pour_81 ?_
      refine lv_iload_n F.x F.cd dX2_pour_84 rfl (lv_at hl 3 rfl) ?_
      refine a_iadd (v := (nI (v 3 + n))) F (nI_add _ _) dX2_pour_85 ?_
      refine s_put F hW (ci := 1) (C := RX2) (T := TX2) (N := 6) (v := .int (nI (v 3 + n))) (ty := .int) (f25) (hWk.2.1) rfl in_X2 tyX2_ok nmX2 3 (by decide) q168 (fun _ h9 => h9) rfl (by decide +kernel) rfl rfl (Nat.le_of_ble_eq_true rfl) dX2_pour_86 (fun H locs hW => ?_)
      obtain ⟨σ31, hσ31⟩ : ∃ z, z = sset σ23 (L 0) (.inr (1, [.ref (L 1), .ref (L 2), .int (nI (v 2)), .int (nI (v 3 + n)), .int (nI (v 4)), .int (nI (v 5))])) := ⟨_, rfl⟩
      have hW : Hl g σ31 H locs := by rw [hσ31]; exact hW
      have w31 : σ31 (L 0) = some (.inr (1, [.ref (L 1), .ref (L 2), .int (nI (v 2)), .int (nI (v 3 + n)), .int (nI (v 4)), .int (nI (v 5))])) := by rw [hσ31]; exact sset_eq
      have f32 : σ31 (L 1) = some (.inr (2, [.int mcT, .ref (L 3), .int (nI (v 0))])) := by rw [hσ31, sset_ne (sto_ne f25 f26 (by simp))]; exact f26
      have j33 := IsList.setO (e := .inr (1, [.ref (L 1), .ref (L 2), .int (nI (v 2)), .int (nI (v 3 + n)), .int (nI (v 4)), .int (nI (v 5))])) (j27) (f25) (by decide)
      rw [← hσ31] at j33
      have f34 : σ31 (L 2) = some (.inr (2, [.int mcP, .ref (L 4), .int (nI (v 1))])) := by rw [hσ31, sset_ne (sto_ne f25 f28 (by simp))]; exact f28
      have j35 := IsList.setO (e := .inr (1, [.ref (L 1), .ref (L 2), .int (nI (v 2)), .int (nI (v 3 + n)), .int (nI (v 4)), .int (nI (v 5))])) (j29) (f25) (by decide)
      rw [← hσ31] at j35
      have f36 : σ31 (L (10 + i)) = some (.inr (8, [.int (nI (tC v i)), .int (nI (tK v i + n)), .int (nI ((tI v i) ||| k))])) := by rw [hσ31, sset_ne (sto_ne f25 w24 (by simp))]; exact w24
      refine lv_aload F.x F.cd dX2_pour_89 (lv_at hl 0 rfl) ?_
      refine s_getN F hW (ci := 8) (C := RX4) (T := TX4) (N := 3) (v := .int (nI (tK v i + n))) (f36) rfl in_X4 1 (by decide) q951 (fun _ h9 => h9) rfl dX2_pour_91 ?_
      subst hQ
      exact s_reti (v := (nI (tK v i + n))) F hW rfl (⟨_, _, by rw [pourR, if_pos hd7, if_pos hd35, cl_nI (by omega), cl_nI (by omega), cl_nI (by omega), if_pos (of_decide_eq_true hd69)], rfl, Did.of (by rw [hσ31, hσ23]; exact (hWk.setT hi (by omega)).setW (by rw [upT_lo (by omega)]; exact hI.1)) (by rw [hσ31, hσ23]; exact (Fr.refl.set (hWk.foT hi)).set hWk.foW) (by rw [pourV, upW_lo (by omega), upT_lo (by omega)]) (by rw [pourV, upW_lo (by omega), upT_lo (by omega)])⟩) ⟨(Nat.le_of_ble_eq_true rfl), (Nat.le_of_ble_eq_true rfl)⟩ dX2_pour_94
  · refine lv_iload_n F.x F.cd dX2_pour_21 rfl (lv_at hl 3 rfl) ?_
    refine s_callSN (As := [.int s]) (rest := []) (n := 1) F hW (k_X1_isSet g l σ s) q1252 q1253 q68 q1254 (by decide +kernel) rfl ⟨⟨Nat.le_of_ble_eq_true rfl, Nat.le_of_ble_eq_true rfl⟩, ⟨(Nat.le_of_ble_eq_true rfl), (Nat.le_of_ble_eq_true rfl)⟩⟩ (Nat.le_of_ble_eq_true rfl) hl.1 rfl dX2_pour_22 cX_no (fun r37 σ37 H locs hp37 hW => ?_)
    obtain ⟨rfl, hs37⟩ := hp37
    rw [hs37] at hW
    refine W.eq (g2 := F0 m_ 25 ls (.int (bI (btw s (nI 0) (nI 255))) :: [])) rfl ?_
    refine b_if_eq (b := (btw s (nI 0) (nI 255))) (tgt := 32) F dX2_pour_25 (by decide) (fun c_25 => ?_) (fun c_25 => ?_)
    · refine lv_iconst (v := (nI 0)) F.x F.cd dX2_pour_32 (by decide) ?_
      refine W.eq (g2 := F0 m_ 33 ls (.int (bI (btw y (nI 1) (nI 999) && btw s (nI 0) (nI 255))) :: [])) (by rw [show (btw y (nI 1) (nI 999) && btw s (nI 0) (nI 255)) = false by simp [c_18, c_25]]; rfl) ?_
      refine s_ldcS F q1209 dX2_pour_33 ?_
      refine s_callSN (As := [.int (bI (btw y (nI 1) (nI 999) && btw s (nI 0) (nI 255))), .ref (gS g "FilterWaterworks$Works" 64)]) (rest := []) (n := 2) F hW (k_X1_demand g l σ (btw y (nI 1) (nI 999) && btw s (nI 0) (nI 255)) (gS g "FilterWaterworks$Works" 64) "argument" ⟨"FilterWaterworks$Works", 64, q1209, rfl⟩) q1210 q1211 q68 q1212 (by decide +kernel) rfl ⟨⟨Nat.le_of_ble_eq_true rfl, Nat.le_of_ble_eq_true rfl⟩, ⟨(Nat.le_of_ble_eq_true rfl), (Nat.le_of_ble_eq_true rfl)⟩⟩ (Nat.le_of_ble_eq_true rfl) hl.1 rfl dX2_pour_35 (by subst hQ; exact cX_out F ⟨(Nat.le_of_ble_eq_true rfl), (Nat.le_of_ble_eq_true rfl)⟩ (fun q9 E9 σ9 hp9 => ⟨"argument", by rw [pourR, if_pos hd7, if_neg (by rw [hp9.1]; decide)], hp9.2⟩)) (fun r38 σ38 H locs hp38 hW => ?_)
      obtain ⟨rfl, hs38, hd35⟩ := hp38
      rw [hs38] at hW
      refine W.eq (g2 := F0 m_ 38 ls ([])) rfl ?_
      have hd35a := hd35
      rw [Bool.and_eq_true] at hd35a
      obtain ⟨hy9, hs9⟩ := hd35a
      obtain ⟨n, hn1, hn2, rfl⟩ := (btw_iff (by decide) (by decide)).mp hy9
      obtain ⟨k, hk1, hk2, rfl⟩ := (btw_iff (by decide) (by decide)).mp hs9
      have hti := hI.tk hi
      refine lv_aload_n F.x F.cd dX2_pour_38 rfl (lv_at hl 0 rfl) ?_
      refine s_get F hW (ci := 1) (C := RX2) (T := TX2) (N := 6) (v := .ref (L 1)) (hWk.1) rfl in_X2 0 (by decide) q159 (fun _ h9 => h9) rfl dX2_pour_39 ?_
      refine lv_iload_n F.x F.cd dX2_pour_42 rfl (lv_at hl 1 rfl) ?_
      refine s_callF (As := [.int (nI i)]) (rest := []) (C := RJ2) (T := TJ2) (N := 3) (n := 1) F hW (k_J2_get g l σ _ _ _ _ i hT (by omega)) (eT) rfl (List.mem_of_getElem? (i := 1) rfl) q693 q328 q330 q72 q332 (by decide +kernel) rfl ⟨⟨Nat.le_of_ble_eq_true rfl, Nat.le_of_ble_eq_true rfl⟩, ⟨(Nat.le_of_ble_eq_true rfl), (Nat.le_of_ble_eq_true rfl)⟩⟩ (Nat.le_of_ble_eq_true rfl) hl.1 rfl dX2_pour_43 cX_no (fun r39 σ39 H locs hp39 hW => ?_)
      obtain ⟨rfl, hs39⟩ := hp39
      rw [hs39] at hW
      refine W.eq (g2 := F0 m_ 48 ls (.ref (L (10 + i)) :: [])) rfl ?_
      refine s_cast_ F hW (C := RX4) (T := TX4) (N := 3) ((hWk.2.2.2.2.1 i (by omega)).1) rfl q790 dX2_pour_48 ?_
      refine lv_astore (lv' := [(4, .ref (L (10 + i))), (0, .ref (L 0)), (1, .int (nI i)), (2, .int (nI n)), (3, .int (nI k))]) F.x F.cd dX2_pour_51 hl (by decide) rfl (fun ls hl => ?_)
      refine lv_iload_n F.x F.cd dX2_pour_53 rfl (lv_at hl 3 rfl) ?_
      refine lv_aload F.x F.cd dX2_pour_54 (lv_at hl 0 rfl) ?_
      refine s_callV (As := []) (rest := [.int (nI n)]) (C := RX4) (T := TX4) (N := 3) (n := 0) F hW (k_X4_room g l σ (L (10 + i)) (tC v i) (tK v i) (tI v i) ((hWk.2.2.2.2.1 i (by omega)).1) (by omega)) ((hWk.2.2.2.2.1 i (by omega)).1) rfl q833 q834 q835 q94 q836 rfl (by decide +kernel) rfl ⟨⟨Nat.le_of_ble_eq_true rfl, Nat.le_of_ble_eq_true rfl⟩, ⟨(Nat.le_of_ble_eq_true rfl), (Nat.le_of_ble_eq_true rfl)⟩⟩ (Nat.le_of_ble_eq_true rfl) hl.1 rfl dX2_pour_56 cX_no (fun r40 σ40 H locs hp40 hW => ?_)
      obtain ⟨rfl, hs40⟩ := hp40
      rw [hs40] at hW
      refine W.eq (g2 := F0 m_ 59 ls (.int (nI ((tC v i) - (tK v i))) :: .int (nI n) :: [])) rfl ?_
      refine n_icmp_gt (a := n) (b := (tC v i) - (tK v i)) (tgt := 66) F (by omega) (by omega) dX2_pour_59 (by decide) (fun c_59 => ?_) (fun c_59 => ?_)
      · refine lv_iconst (v := (nI 0)) F.x F.cd dX2_pour_66 (by decide) ?_
        refine W.eq (g2 := F0 m_ 67 ls (.int (bI (decide (n ≤ tC v i - tK v i))) :: [])) (by rw [show decide (n ≤ tC v i - tK v i) = false by simp; omega]; rfl) ?_
        refine s_ldcS F q1261 dX2_pour_67 ?_
        refine s_callSN (As := [.int (bI (decide (n ≤ tC v i - tK v i))), .ref (gS g "FilterWaterworks$Works" 90)]) (rest := []) (n := 2) F hW (k_X1_demand g l σ (decide (n ≤ tC v i - tK v i)) (gS g "FilterWaterworks$Works" 90) "rule" ⟨"FilterWaterworks$Works", 90, q1261, rfl⟩) q1210 q1211 q68 q1212 (by decide +kernel) rfl ⟨⟨Nat.le_of_ble_eq_true rfl, Nat.le_of_ble_eq_true rfl⟩, ⟨(Nat.le_of_ble_eq_true rfl), (Nat.le_of_ble_eq_true rfl)⟩⟩ (Nat.le_of_ble_eq_true rfl) hl.1 rfl dX2_pour_69 (by subst hQ; exact cX_out F ⟨(Nat.le_of_ble_eq_true rfl), (Nat.le_of_ble_eq_true rfl)⟩ (fun q9 E9 σ9 hp9 => ⟨"rule", by rw [pourR, if_pos hd7, if_pos hd35, cl_nI (by omega), cl_nI (by omega), if_neg (of_decide_eq_false hp9.1)], hp9.2⟩)) (fun r41 σ41 H locs hp41 hW => ?_)
        obtain ⟨rfl, hs41, hd69⟩ := hp41
        rw [hs41] at hW
        refine W.eq (g2 := F0 m_ 72 ls ([])) rfl ?_
        refine lv_aload F.x F.cd dX2_pour_72 (lv_at hl 0 rfl) ?_
        refine lv_iload_n F.x F.cd dX2_pour_74 rfl (lv_at hl 3 rfl) ?_
        refine lv_iload_n F.x F.cd dX2_pour_75 rfl (lv_at hl 4 rfl) ?_
        refine s_callV (As := [.int (nI n), .int (nI k)]) (rest := []) (C := RX4) (T := TX4) (N := 3) (n := 2) F hW (k_X4_fill g l σ (L (10 + i)) (tC v i) (tK v i) (tI v i) n k ((hWk.2.2.2.2.1 i (by omega)).1) ((hWk.2.2.2.2.1 i (by omega)).2) ) ((hWk.2.2.2.2.1 i (by omega)).1) rfl q1262 q1263 q1264 q94 q1265 rfl (by decide +kernel) rfl ⟨⟨Nat.le_of_ble_eq_true rfl, Nat.le_of_ble_eq_true rfl⟩, ⟨(Nat.le_of_ble_eq_true rfl), (Nat.le_of_ble_eq_true rfl)⟩⟩ (Nat.le_of_ble_eq_true rfl) hl.1 rfl dX2_pour_76 cX_no (fun r42 σ42 H locs hp42 hW => ?_)
        obtain ⟨rfl, hσ42⟩ := hp42
        refine W.eq (g2 := F0 m_ 79 ls ([])) rfl ?_
        have w43 : σ42 (L (10 + i)) = some (.inr (8, [.int (nI (tC v i)), .int (nI (tK v i + n)), .int (nI ((tI v i) ||| k))])) := by rw [hσ42]; exact sset_eq
        have f44 : σ42 (L 0) = some (.inr (1, [.ref (L 1), .ref (L 2), .int (nI (v 2)), .int (nI (v 3)), .int (nI (v 4)), .int (nI (v 5))])) := by rw [hσ42, sset_ne (sto_ne ((hWk.2.2.2.2.1 i (by omega)).1) hWk.1 (by simp))]; exact hWk.1
        have f45 : σ42 (L 1) = some (.inr (2, [.int mcT, .ref (L 3), .int (nI (v 0))])) := by rw [hσ42, sset_ne (sto_ne ((hWk.2.2.2.2.1 i (by omega)).1) eT (by simp))]; exact eT
        have j46 := IsList.setO (e := .inr (8, [.int (nI (tC v i)), .int (nI (tK v i + n)), .int (nI ((tI v i) ||| k))])) (hT) ((hWk.2.2.2.2.1 i (by omega)).1) (by decide)
        rw [← hσ42] at j46
        have f47 : σ42 (L 2) = some (.inr (2, [.int mcP, .ref (L 4), .int (nI (v 1))])) := by rw [hσ42, sset_ne (sto_ne ((hWk.2.2.2.2.1 i (by omega)).1) eP (by simp))]; exact eP
        have j48 := IsList.setO (e := .inr (8, [.int (nI (tC v i)), .int (nI (tK v i + n)), .int (nI ((tI v i) ||| k))])) (hP) ((hWk.2.2.2.2.1 i (by omega)).1) (by decide)
        rw [← hσ42] at j48
        refine lv_aload_n F.x F.cd dX2_pour_79 rfl (lv_at hl 1 rfl) ?_
        refine lv_dup F.x F.cd dX2_pour_80 rfl ?_
        refine s_get F hW (ci := 1) (C := RX2) (T := TX2) (N := 6) (v := .int (nI (v 3))) (f44) rfl in_X2 3 (by decide) q168 (fun _ h9 => h9) rfl dX2_pour_81 ?_
        refine lv_iload_n F.x F.cd dX2_pour_84 rfl (lv_at hl 3 rfl) ?_
        refine a_iadd (v := (nI (v 3 + n))) F (nI_add _ _) dX2_pour_85 ?_
        refine s_put F hW (ci := 1) (C := RX2) (T := TX2) (N := 6) (v := .int (nI (v 3 + n))) (ty := .int) (f44) (hWk.2.1) rfl in_X2 tyX2_ok nmX2 3 (by decide) q168 (fun _ h9 => h9) rfl (by decide +kernel) rfl rfl (Nat.le_of_ble_eq_true rfl) dX2_pour_86 (fun H locs hW => ?_)
        obtain ⟨σ50, hσ50⟩ : ∃ z, z = sset σ42 (L 0) (.inr (1, [.ref (L 1), .ref (L 2), .int (nI (v 2)), .int (nI (v 3 + n)), .int (nI (v 4)), .int (nI (v 5))])) := ⟨_, rfl⟩
        have hW : Hl g σ50 H locs := by rw [hσ50]; exact hW
        have w50 : σ50 (L 0) = some (.inr (1, [.ref (L 1), .ref (L 2), .int (nI (v 2)), .int (nI (v 3 + n)), .int (nI (v 4)), .int (nI (v 5))])) := by rw [hσ50]; exact sset_eq
        have f51 : σ50 (L 1) = some (.inr (2, [.int mcT, .ref (L 3), .int (nI (v 0))])) := by rw [hσ50, sset_ne (sto_ne f44 f45 (by simp))]; exact f45
        have j52 := IsList.setO (e := .inr (1, [.ref (L 1), .ref (L 2), .int (nI (v 2)), .int (nI (v 3 + n)), .int (nI (v 4)), .int (nI (v 5))])) (j46) (f44) (by decide)
        rw [← hσ50] at j52
        have f53 : σ50 (L 2) = some (.inr (2, [.int mcP, .ref (L 4), .int (nI (v 1))])) := by rw [hσ50, sset_ne (sto_ne f44 f47 (by simp))]; exact f47
        have j54 := IsList.setO (e := .inr (1, [.ref (L 1), .ref (L 2), .int (nI (v 2)), .int (nI (v 3 + n)), .int (nI (v 4)), .int (nI (v 5))])) (j48) (f44) (by decide)
        rw [← hσ50] at j54
        have f55 : σ50 (L (10 + i)) = some (.inr (8, [.int (nI (tC v i)), .int (nI (tK v i + n)), .int (nI ((tI v i) ||| k))])) := by rw [hσ50, sset_ne (sto_ne f44 w43 (by simp))]; exact w43
        refine lv_aload F.x F.cd dX2_pour_89 (lv_at hl 0 rfl) ?_
        refine s_getN F hW (ci := 8) (C := RX4) (T := TX4) (N := 3) (v := .int (nI (tK v i + n))) (f55) rfl in_X4 1 (by decide) q951 (fun _ h9 => h9) rfl dX2_pour_91 ?_
        subst hQ
        exact s_reti (v := (nI (tK v i + n))) F hW rfl (⟨_, _, by rw [pourR, if_pos hd7, if_pos hd35, cl_nI (by omega), cl_nI (by omega), cl_nI (by omega), if_pos (of_decide_eq_true hd69)], rfl, Did.of (by rw [hσ50, hσ42]; exact (hWk.setT hi (by omega)).setW (by rw [upT_lo (by omega)]; exact hI.1)) (by rw [hσ50, hσ42]; exact (Fr.refl.set (hWk.foT hi)).set hWk.foW) (by rw [pourV, upW_lo (by omega), upT_lo (by omega)]) (by rw [pourV, upW_lo (by omega), upT_lo (by omega)])⟩) ⟨(Nat.le_of_ble_eq_true rfl), (Nat.le_of_ble_eq_true rfl)⟩ dX2_pour_94
      · refine lv_iconst (v := (nI 1)) F.x F.cd dX2_pour_62 (by decide) ?_
        refine lv_goto (tgt := 67) F.x F.cd dX2_pour_63 (by decide) ?_
        refine W.eq (g2 := F0 m_ 67 ls (.int (bI (decide (n ≤ tC v i - tK v i))) :: [])) (by rw [show decide (n ≤ tC v i - tK v i) = true by simp; omega]; rfl) ?_
        refine s_ldcS F q1261 dX2_pour_67 ?_
        refine s_callSN (As := [.int (bI (decide (n ≤ tC v i - tK v i))), .ref (gS g "FilterWaterworks$Works" 90)]) (rest := []) (n := 2) F hW (k_X1_demand g l σ (decide (n ≤ tC v i - tK v i)) (gS g "FilterWaterworks$Works" 90) "rule" ⟨"FilterWaterworks$Works", 90, q1261, rfl⟩) q1210 q1211 q68 q1212 (by decide +kernel) rfl ⟨⟨Nat.le_of_ble_eq_true rfl, Nat.le_of_ble_eq_true rfl⟩, ⟨(Nat.le_of_ble_eq_true rfl), (Nat.le_of_ble_eq_true rfl)⟩⟩ (Nat.le_of_ble_eq_true rfl) hl.1 rfl dX2_pour_69 (by subst hQ; exact cX_out F ⟨(Nat.le_of_ble_eq_true rfl), (Nat.le_of_ble_eq_true rfl)⟩ (fun q9 E9 σ9 hp9 => ⟨"rule", by rw [pourR, if_pos hd7, if_pos hd35, cl_nI (by omega), cl_nI (by omega), if_neg (of_decide_eq_false hp9.1)], hp9.2⟩)) (fun r56 σ56 H locs hp56 hW => ?_)
        obtain ⟨rfl, hs56, hd69⟩ := hp56
        rw [hs56] at hW
        refine W.eq (g2 := F0 m_ 72 ls ([])) rfl ?_
        refine lv_aload F.x F.cd dX2_pour_72 (lv_at hl 0 rfl) ?_
        refine lv_iload_n F.x F.cd dX2_pour_74 rfl (lv_at hl 3 rfl) ?_
        refine lv_iload_n F.x F.cd dX2_pour_75 rfl (lv_at hl 4 rfl) ?_
        refine s_callV (As := [.int (nI n), .int (nI k)]) (rest := []) (C := RX4) (T := TX4) (N := 3) (n := 2) F hW (k_X4_fill g l σ (L (10 + i)) (tC v i) (tK v i) (tI v i) n k ((hWk.2.2.2.2.1 i (by omega)).1) ((hWk.2.2.2.2.1 i (by omega)).2) ) ((hWk.2.2.2.2.1 i (by omega)).1) rfl q1262 q1263 q1264 q94 q1265 rfl (by decide +kernel) rfl ⟨⟨Nat.le_of_ble_eq_true rfl, Nat.le_of_ble_eq_true rfl⟩, ⟨(Nat.le_of_ble_eq_true rfl), (Nat.le_of_ble_eq_true rfl)⟩⟩ (Nat.le_of_ble_eq_true rfl) hl.1 rfl dX2_pour_76 cX_no (fun r57 σ57 H locs hp57 hW => ?_)
        obtain ⟨rfl, hσ57⟩ := hp57
        refine W.eq (g2 := F0 m_ 79 ls ([])) rfl ?_
        have w58 : σ57 (L (10 + i)) = some (.inr (8, [.int (nI (tC v i)), .int (nI (tK v i + n)), .int (nI ((tI v i) ||| k))])) := by rw [hσ57]; exact sset_eq
        have f59 : σ57 (L 0) = some (.inr (1, [.ref (L 1), .ref (L 2), .int (nI (v 2)), .int (nI (v 3)), .int (nI (v 4)), .int (nI (v 5))])) := by rw [hσ57, sset_ne (sto_ne ((hWk.2.2.2.2.1 i (by omega)).1) hWk.1 (by simp))]; exact hWk.1
        have f60 : σ57 (L 1) = some (.inr (2, [.int mcT, .ref (L 3), .int (nI (v 0))])) := by rw [hσ57, sset_ne (sto_ne ((hWk.2.2.2.2.1 i (by omega)).1) eT (by simp))]; exact eT
        have j61 := IsList.setO (e := .inr (8, [.int (nI (tC v i)), .int (nI (tK v i + n)), .int (nI ((tI v i) ||| k))])) (hT) ((hWk.2.2.2.2.1 i (by omega)).1) (by decide)
        rw [← hσ57] at j61
        have f62 : σ57 (L 2) = some (.inr (2, [.int mcP, .ref (L 4), .int (nI (v 1))])) := by rw [hσ57, sset_ne (sto_ne ((hWk.2.2.2.2.1 i (by omega)).1) eP (by simp))]; exact eP
        have j63 := IsList.setO (e := .inr (8, [.int (nI (tC v i)), .int (nI (tK v i + n)), .int (nI ((tI v i) ||| k))])) (hP) ((hWk.2.2.2.2.1 i (by omega)).1) (by decide)
        rw [← hσ57] at j63
        refine lv_aload_n F.x F.cd dX2_pour_79 rfl (lv_at hl 1 rfl) ?_
        refine lv_dup F.x F.cd dX2_pour_80 rfl ?_
        refine s_get F hW (ci := 1) (C := RX2) (T := TX2) (N := 6) (v := .int (nI (v 3))) (f59) rfl in_X2 3 (by decide) q168 (fun _ h9 => h9) rfl dX2_pour_81 ?_
        refine lv_iload_n F.x F.cd dX2_pour_84 rfl (lv_at hl 3 rfl) ?_
        refine a_iadd (v := (nI (v 3 + n))) F (nI_add _ _) dX2_pour_85 ?_
        refine s_put F hW (ci := 1) (C := RX2) (T := TX2) (N := 6) (v := .int (nI (v 3 + n))) (ty := .int) (f59) (hWk.2.1) rfl in_X2 tyX2_ok nmX2 3 (by decide) q168 (fun _ h9 => h9) rfl (by decide +kernel) rfl rfl (Nat.le_of_ble_eq_true rfl) dX2_pour_86 (fun H locs hW => ?_)
        obtain ⟨σ65, hσ65⟩ : ∃ z, z = sset σ57 (L 0) (.inr (1, [.ref (L 1), .ref (L 2), .int (nI (v 2)), .int (nI (v 3 + n)), .int (nI (v 4)), .int (nI (v 5))])) := ⟨_, rfl⟩
        have hW : Hl g σ65 H locs := by rw [hσ65]; exact hW
        have w65 : σ65 (L 0) = some (.inr (1, [.ref (L 1), .ref (L 2), .int (nI (v 2)), .int (nI (v 3 + n)), .int (nI (v 4)), .int (nI (v 5))])) := by rw [hσ65]; exact sset_eq
        have f66 : σ65 (L 1) = some (.inr (2, [.int mcT, .ref (L 3), .int (nI (v 0))])) := by rw [hσ65, sset_ne (sto_ne f59 f60 (by simp))]; exact f60
        have j67 := IsList.setO (e := .inr (1, [.ref (L 1), .ref (L 2), .int (nI (v 2)), .int (nI (v 3 + n)), .int (nI (v 4)), .int (nI (v 5))])) (j61) (f59) (by decide)
        rw [← hσ65] at j67
        have f68 : σ65 (L 2) = some (.inr (2, [.int mcP, .ref (L 4), .int (nI (v 1))])) := by rw [hσ65, sset_ne (sto_ne f59 f62 (by simp))]; exact f62
        have j69 := IsList.setO (e := .inr (1, [.ref (L 1), .ref (L 2), .int (nI (v 2)), .int (nI (v 3 + n)), .int (nI (v 4)), .int (nI (v 5))])) (j63) (f59) (by decide)
        rw [← hσ65] at j69
        have f70 : σ65 (L (10 + i)) = some (.inr (8, [.int (nI (tC v i)), .int (nI (tK v i + n)), .int (nI ((tI v i) ||| k))])) := by rw [hσ65, sset_ne (sto_ne f59 w58 (by simp))]; exact w58
        refine lv_aload F.x F.cd dX2_pour_89 (lv_at hl 0 rfl) ?_
        refine s_getN F hW (ci := 8) (C := RX4) (T := TX4) (N := 3) (v := .int (nI (tK v i + n))) (f70) rfl in_X4 1 (by decide) q951 (fun _ h9 => h9) rfl dX2_pour_91 ?_
        subst hQ
        exact s_reti (v := (nI (tK v i + n))) F hW rfl (⟨_, _, by rw [pourR, if_pos hd7, if_pos hd35, cl_nI (by omega), cl_nI (by omega), cl_nI (by omega), if_pos (of_decide_eq_true hd69)], rfl, Did.of (by rw [hσ65, hσ57]; exact (hWk.setT hi (by omega)).setW (by rw [upT_lo (by omega)]; exact hI.1)) (by rw [hσ65, hσ57]; exact (Fr.refl.set (hWk.foT hi)).set hWk.foW) (by rw [pourV, upW_lo (by omega), upT_lo (by omega)]) (by rw [pourV, upW_lo (by omega), upT_lo (by omega)])⟩) ⟨(Nat.le_of_ble_eq_true rfl), (Nat.le_of_ble_eq_true rfl)⟩ dX2_pour_94
    · refine lv_iconst (v := (nI 1)) F.x F.cd dX2_pour_28 (by decide) ?_
      refine lv_goto (tgt := 33) F.x F.cd dX2_pour_29 (by decide) ?_
      refine W.eq (g2 := F0 m_ 33 ls (.int (bI (btw y (nI 1) (nI 999) && btw s (nI 0) (nI 255))) :: [])) (by rw [show (btw y (nI 1) (nI 999) && btw s (nI 0) (nI 255)) = true by simp [c_18, c_25]]; rfl) ?_
      refine s_ldcS F q1209 dX2_pour_33 ?_
      refine s_callSN (As := [.int (bI (btw y (nI 1) (nI 999) && btw s (nI 0) (nI 255))), .ref (gS g "FilterWaterworks$Works" 64)]) (rest := []) (n := 2) F hW (k_X1_demand g l σ (btw y (nI 1) (nI 999) && btw s (nI 0) (nI 255)) (gS g "FilterWaterworks$Works" 64) "argument" ⟨"FilterWaterworks$Works", 64, q1209, rfl⟩) q1210 q1211 q68 q1212 (by decide +kernel) rfl ⟨⟨Nat.le_of_ble_eq_true rfl, Nat.le_of_ble_eq_true rfl⟩, ⟨(Nat.le_of_ble_eq_true rfl), (Nat.le_of_ble_eq_true rfl)⟩⟩ (Nat.le_of_ble_eq_true rfl) hl.1 rfl dX2_pour_35 (by subst hQ; exact cX_out F ⟨(Nat.le_of_ble_eq_true rfl), (Nat.le_of_ble_eq_true rfl)⟩ (fun q9 E9 σ9 hp9 => ⟨"argument", by rw [pourR, if_pos hd7, if_neg (by rw [hp9.1]; decide)], hp9.2⟩)) (fun r71 σ71 H locs hp71 hW => ?_)
      obtain ⟨rfl, hs71, hd35⟩ := hp71
      rw [hs71] at hW
      refine W.eq (g2 := F0 m_ 38 ls ([])) rfl ?_
      have hd35a := hd35
      rw [Bool.and_eq_true] at hd35a
      obtain ⟨hy9, hs9⟩ := hd35a
      obtain ⟨n, hn1, hn2, rfl⟩ := (btw_iff (by decide) (by decide)).mp hy9
      obtain ⟨k, hk1, hk2, rfl⟩ := (btw_iff (by decide) (by decide)).mp hs9
      have hti := hI.tk hi
      refine lv_aload_n F.x F.cd dX2_pour_38 rfl (lv_at hl 0 rfl) ?_
      refine s_get F hW (ci := 1) (C := RX2) (T := TX2) (N := 6) (v := .ref (L 1)) (hWk.1) rfl in_X2 0 (by decide) q159 (fun _ h9 => h9) rfl dX2_pour_39 ?_
      refine lv_iload_n F.x F.cd dX2_pour_42 rfl (lv_at hl 1 rfl) ?_
      refine s_callF (As := [.int (nI i)]) (rest := []) (C := RJ2) (T := TJ2) (N := 3) (n := 1) F hW (k_J2_get g l σ _ _ _ _ i hT (by omega)) (eT) rfl (List.mem_of_getElem? (i := 1) rfl) q693 q328 q330 q72 q332 (by decide +kernel) rfl ⟨⟨Nat.le_of_ble_eq_true rfl, Nat.le_of_ble_eq_true rfl⟩, ⟨(Nat.le_of_ble_eq_true rfl), (Nat.le_of_ble_eq_true rfl)⟩⟩ (Nat.le_of_ble_eq_true rfl) hl.1 rfl dX2_pour_43 cX_no (fun r72 σ72 H locs hp72 hW => ?_)
      obtain ⟨rfl, hs72⟩ := hp72
      rw [hs72] at hW
      refine W.eq (g2 := F0 m_ 48 ls (.ref (L (10 + i)) :: [])) rfl ?_
      refine s_cast_ F hW (C := RX4) (T := TX4) (N := 3) ((hWk.2.2.2.2.1 i (by omega)).1) rfl q790 dX2_pour_48 ?_
      refine lv_astore (lv' := [(4, .ref (L (10 + i))), (0, .ref (L 0)), (1, .int (nI i)), (2, .int (nI n)), (3, .int (nI k))]) F.x F.cd dX2_pour_51 hl (by decide) rfl (fun ls hl => ?_)
      refine lv_iload_n F.x F.cd dX2_pour_53 rfl (lv_at hl 3 rfl) ?_
      refine lv_aload F.x F.cd dX2_pour_54 (lv_at hl 0 rfl) ?_
      refine s_callV (As := []) (rest := [.int (nI n)]) (C := RX4) (T := TX4) (N := 3) (n := 0) F hW (k_X4_room g l σ (L (10 + i)) (tC v i) (tK v i) (tI v i) ((hWk.2.2.2.2.1 i (by omega)).1) (by omega)) ((hWk.2.2.2.2.1 i (by omega)).1) rfl q833 q834 q835 q94 q836 rfl (by decide +kernel) rfl ⟨⟨Nat.le_of_ble_eq_true rfl, Nat.le_of_ble_eq_true rfl⟩, ⟨(Nat.le_of_ble_eq_true rfl), (Nat.le_of_ble_eq_true rfl)⟩⟩ (Nat.le_of_ble_eq_true rfl) hl.1 rfl dX2_pour_56 cX_no (fun r73 σ73 H locs hp73 hW => ?_)
      obtain ⟨rfl, hs73⟩ := hp73
      rw [hs73] at hW
      refine W.eq (g2 := F0 m_ 59 ls (.int (nI ((tC v i) - (tK v i))) :: .int (nI n) :: [])) rfl ?_
      refine n_icmp_gt (a := n) (b := (tC v i) - (tK v i)) (tgt := 66) F (by omega) (by omega) dX2_pour_59 (by decide) (fun c_59 => ?_) (fun c_59 => ?_)
      · refine lv_iconst (v := (nI 0)) F.x F.cd dX2_pour_66 (by decide) ?_
        refine W.eq (g2 := F0 m_ 67 ls (.int (bI (decide (n ≤ tC v i - tK v i))) :: [])) (by rw [show decide (n ≤ tC v i - tK v i) = false by simp; omega]; rfl) ?_
        refine s_ldcS F q1261 dX2_pour_67 ?_
        refine s_callSN (As := [.int (bI (decide (n ≤ tC v i - tK v i))), .ref (gS g "FilterWaterworks$Works" 90)]) (rest := []) (n := 2) F hW (k_X1_demand g l σ (decide (n ≤ tC v i - tK v i)) (gS g "FilterWaterworks$Works" 90) "rule" ⟨"FilterWaterworks$Works", 90, q1261, rfl⟩) q1210 q1211 q68 q1212 (by decide +kernel) rfl ⟨⟨Nat.le_of_ble_eq_true rfl, Nat.le_of_ble_eq_true rfl⟩, ⟨(Nat.le_of_ble_eq_true rfl), (Nat.le_of_ble_eq_true rfl)⟩⟩ (Nat.le_of_ble_eq_true rfl) hl.1 rfl dX2_pour_69 (by subst hQ; exact cX_out F ⟨(Nat.le_of_ble_eq_true rfl), (Nat.le_of_ble_eq_true rfl)⟩ (fun q9 E9 σ9 hp9 => ⟨"rule", by rw [pourR, if_pos hd7, if_pos hd35, cl_nI (by omega), cl_nI (by omega), if_neg (of_decide_eq_false hp9.1)], hp9.2⟩)) (fun r74 σ74 H locs hp74 hW => ?_)
        obtain ⟨rfl, hs74, hd69⟩ := hp74
        rw [hs74] at hW
        refine W.eq (g2 := F0 m_ 72 ls ([])) rfl ?_
        refine lv_aload F.x F.cd dX2_pour_72 (lv_at hl 0 rfl) ?_
        refine lv_iload_n F.x F.cd dX2_pour_74 rfl (lv_at hl 3 rfl) ?_
        refine lv_iload_n F.x F.cd dX2_pour_75 rfl (lv_at hl 4 rfl) ?_
        refine s_callV (As := [.int (nI n), .int (nI k)]) (rest := []) (C := RX4) (T := TX4) (N := 3) (n := 2) F hW (k_X4_fill g l σ (L (10 + i)) (tC v i) (tK v i) (tI v i) n k ((hWk.2.2.2.2.1 i (by omega)).1) ((hWk.2.2.2.2.1 i (by omega)).2) ) ((hWk.2.2.2.2.1 i (by omega)).1) rfl q1262 q1263 q1264 q94 q1265 rfl (by decide +kernel) rfl ⟨⟨Nat.le_of_ble_eq_true rfl, Nat.le_of_ble_eq_true rfl⟩, ⟨(Nat.le_of_ble_eq_true rfl), (Nat.le_of_ble_eq_true rfl)⟩⟩ (Nat.le_of_ble_eq_true rfl) hl.1 rfl dX2_pour_76 cX_no (fun r75 σ75 H locs hp75 hW => ?_)
        obtain ⟨rfl, hσ75⟩ := hp75
        refine W.eq (g2 := F0 m_ 79 ls ([])) rfl ?_
        have w76 : σ75 (L (10 + i)) = some (.inr (8, [.int (nI (tC v i)), .int (nI (tK v i + n)), .int (nI ((tI v i) ||| k))])) := by rw [hσ75]; exact sset_eq
        have f77 : σ75 (L 0) = some (.inr (1, [.ref (L 1), .ref (L 2), .int (nI (v 2)), .int (nI (v 3)), .int (nI (v 4)), .int (nI (v 5))])) := by rw [hσ75, sset_ne (sto_ne ((hWk.2.2.2.2.1 i (by omega)).1) hWk.1 (by simp))]; exact hWk.1
        have f78 : σ75 (L 1) = some (.inr (2, [.int mcT, .ref (L 3), .int (nI (v 0))])) := by rw [hσ75, sset_ne (sto_ne ((hWk.2.2.2.2.1 i (by omega)).1) eT (by simp))]; exact eT
        have j79 := IsList.setO (e := .inr (8, [.int (nI (tC v i)), .int (nI (tK v i + n)), .int (nI ((tI v i) ||| k))])) (hT) ((hWk.2.2.2.2.1 i (by omega)).1) (by decide)
        rw [← hσ75] at j79
        have f80 : σ75 (L 2) = some (.inr (2, [.int mcP, .ref (L 4), .int (nI (v 1))])) := by rw [hσ75, sset_ne (sto_ne ((hWk.2.2.2.2.1 i (by omega)).1) eP (by simp))]; exact eP
        have j81 := IsList.setO (e := .inr (8, [.int (nI (tC v i)), .int (nI (tK v i + n)), .int (nI ((tI v i) ||| k))])) (hP) ((hWk.2.2.2.2.1 i (by omega)).1) (by decide)
        rw [← hσ75] at j81
        refine lv_aload_n F.x F.cd dX2_pour_79 rfl (lv_at hl 1 rfl) ?_
        refine lv_dup F.x F.cd dX2_pour_80 rfl ?_
        refine s_get F hW (ci := 1) (C := RX2) (T := TX2) (N := 6) (v := .int (nI (v 3))) (f77) rfl in_X2 3 (by decide) q168 (fun _ h9 => h9) rfl dX2_pour_81 ?_
        refine lv_iload_n F.x F.cd dX2_pour_84 rfl (lv_at hl 3 rfl) ?_
        refine a_iadd (v := (nI (v 3 + n))) F (nI_add _ _) dX2_pour_85 ?_
        refine s_put F hW (ci := 1) (C := RX2) (T := TX2) (N := 6) (v := .int (nI (v 3 + n))) (ty := .int) (f77) (hWk.2.1) rfl in_X2 tyX2_ok nmX2 3 (by decide) q168 (fun _ h9 => h9) rfl (by decide +kernel) rfl rfl (Nat.le_of_ble_eq_true rfl) dX2_pour_86 (fun H locs hW => ?_)
        obtain ⟨σ83, hσ83⟩ : ∃ z, z = sset σ75 (L 0) (.inr (1, [.ref (L 1), .ref (L 2), .int (nI (v 2)), .int (nI (v 3 + n)), .int (nI (v 4)), .int (nI (v 5))])) := ⟨_, rfl⟩
        have hW : Hl g σ83 H locs := by rw [hσ83]; exact hW
        have w83 : σ83 (L 0) = some (.inr (1, [.ref (L 1), .ref (L 2), .int (nI (v 2)), .int (nI (v 3 + n)), .int (nI (v 4)), .int (nI (v 5))])) := by rw [hσ83]; exact sset_eq
        have f84 : σ83 (L 1) = some (.inr (2, [.int mcT, .ref (L 3), .int (nI (v 0))])) := by rw [hσ83, sset_ne (sto_ne f77 f78 (by simp))]; exact f78
        have j85 := IsList.setO (e := .inr (1, [.ref (L 1), .ref (L 2), .int (nI (v 2)), .int (nI (v 3 + n)), .int (nI (v 4)), .int (nI (v 5))])) (j79) (f77) (by decide)
        rw [← hσ83] at j85
        have f86 : σ83 (L 2) = some (.inr (2, [.int mcP, .ref (L 4), .int (nI (v 1))])) := by rw [hσ83, sset_ne (sto_ne f77 f80 (by simp))]; exact f80
        have j87 := IsList.setO (e := .inr (1, [.ref (L 1), .ref (L 2), .int (nI (v 2)), .int (nI (v 3 + n)), .int (nI (v 4)), .int (nI (v 5))])) (j81) (f77) (by decide)
        rw [← hσ83] at j87
        have f88 : σ83 (L (10 + i)) = some (.inr (8, [.int (nI (tC v i)), .int (nI (tK v i + n)), .int (nI ((tI v i) ||| k))])) := by rw [hσ83, sset_ne (sto_ne f77 w76 (by simp))]; exact w76
        refine lv_aload F.x F.cd dX2_pour_89 (lv_at hl 0 rfl) ?_
        refine s_getN F hW (ci := 8) (C := RX4) (T := TX4) (N := 3) (v := .int (nI (tK v i + n))) (f88) rfl in_X4 1 (by decide) q951 (fun _ h9 => h9) rfl dX2_pour_91 ?_
        subst hQ
        exact s_reti (v := (nI (tK v i + n))) F hW rfl (⟨_, _, by rw [pourR, if_pos hd7, if_pos hd35, cl_nI (by omega), cl_nI (by omega), cl_nI (by omega), if_pos (of_decide_eq_true hd69)], rfl, Did.of (by rw [hσ83, hσ75]; exact (hWk.setT hi (by omega)).setW (by rw [upT_lo (by omega)]; exact hI.1)) (by rw [hσ83, hσ75]; exact (Fr.refl.set (hWk.foT hi)).set hWk.foW) (by rw [pourV, upW_lo (by omega), upT_lo (by omega)]) (by rw [pourV, upW_lo (by omega), upT_lo (by omega)])⟩) ⟨(Nat.le_of_ble_eq_true rfl), (Nat.le_of_ble_eq_true rfl)⟩ dX2_pour_94
      · refine lv_iconst (v := (nI 1)) F.x F.cd dX2_pour_62 (by decide) ?_
        refine lv_goto (tgt := 67) F.x F.cd dX2_pour_63 (by decide) ?_
        refine W.eq (g2 := F0 m_ 67 ls (.int (bI (decide (n ≤ tC v i - tK v i))) :: [])) (by rw [show decide (n ≤ tC v i - tK v i) = true by simp; omega]; rfl) ?_
        refine s_ldcS F q1261 dX2_pour_67 ?_
        refine s_callSN (As := [.int (bI (decide (n ≤ tC v i - tK v i))), .ref (gS g "FilterWaterworks$Works" 90)]) (rest := []) (n := 2) F hW (k_X1_demand g l σ (decide (n ≤ tC v i - tK v i)) (gS g "FilterWaterworks$Works" 90) "rule" ⟨"FilterWaterworks$Works", 90, q1261, rfl⟩) q1210 q1211 q68 q1212 (by decide +kernel) rfl ⟨⟨Nat.le_of_ble_eq_true rfl, Nat.le_of_ble_eq_true rfl⟩, ⟨(Nat.le_of_ble_eq_true rfl), (Nat.le_of_ble_eq_true rfl)⟩⟩ (Nat.le_of_ble_eq_true rfl) hl.1 rfl dX2_pour_69 (by subst hQ; exact cX_out F ⟨(Nat.le_of_ble_eq_true rfl), (Nat.le_of_ble_eq_true rfl)⟩ (fun q9 E9 σ9 hp9 => ⟨"rule", by rw [pourR, if_pos hd7, if_pos hd35, cl_nI (by omega), cl_nI (by omega), if_neg (of_decide_eq_false hp9.1)], hp9.2⟩)) (fun r89 σ89 H locs hp89 hW => ?_)
        obtain ⟨rfl, hs89, hd69⟩ := hp89
        rw [hs89] at hW
        refine W.eq (g2 := F0 m_ 72 ls ([])) rfl ?_
        refine lv_aload F.x F.cd dX2_pour_72 (lv_at hl 0 rfl) ?_
        refine lv_iload_n F.x F.cd dX2_pour_74 rfl (lv_at hl 3 rfl) ?_
        refine lv_iload_n F.x F.cd dX2_pour_75 rfl (lv_at hl 4 rfl) ?_
        refine s_callV (As := [.int (nI n), .int (nI k)]) (rest := []) (C := RX4) (T := TX4) (N := 3) (n := 2) F hW (k_X4_fill g l σ (L (10 + i)) (tC v i) (tK v i) (tI v i) n k ((hWk.2.2.2.2.1 i (by omega)).1) ((hWk.2.2.2.2.1 i (by omega)).2) ) ((hWk.2.2.2.2.1 i (by omega)).1) rfl q1262 q1263 q1264 q94 q1265 rfl (by decide +kernel) rfl ⟨⟨Nat.le_of_ble_eq_true rfl, Nat.le_of_ble_eq_true rfl⟩, ⟨(Nat.le_of_ble_eq_true rfl), (Nat.le_of_ble_eq_true rfl)⟩⟩ (Nat.le_of_ble_eq_true rfl) hl.1 rfl dX2_pour_76 cX_no (fun r90 σ90 H locs hp90 hW => ?_)
        obtain ⟨rfl, hσ90⟩ := hp90
        refine W.eq (g2 := F0 m_ 79 ls ([])) rfl ?_
        have w91 : σ90 (L (10 + i)) = some (.inr (8, [.int (nI (tC v i)), .int (nI (tK v i + n)), .int (nI ((tI v i) ||| k))])) := by rw [hσ90]; exact sset_eq
        have f92 : σ90 (L 0) = some (.inr (1, [.ref (L 1), .ref (L 2), .int (nI (v 2)), .int (nI (v 3)), .int (nI (v 4)), .int (nI (v 5))])) := by rw [hσ90, sset_ne (sto_ne ((hWk.2.2.2.2.1 i (by omega)).1) hWk.1 (by simp))]; exact hWk.1
        have f93 : σ90 (L 1) = some (.inr (2, [.int mcT, .ref (L 3), .int (nI (v 0))])) := by rw [hσ90, sset_ne (sto_ne ((hWk.2.2.2.2.1 i (by omega)).1) eT (by simp))]; exact eT
        have j94 := IsList.setO (e := .inr (8, [.int (nI (tC v i)), .int (nI (tK v i + n)), .int (nI ((tI v i) ||| k))])) (hT) ((hWk.2.2.2.2.1 i (by omega)).1) (by decide)
        rw [← hσ90] at j94
        have f95 : σ90 (L 2) = some (.inr (2, [.int mcP, .ref (L 4), .int (nI (v 1))])) := by rw [hσ90, sset_ne (sto_ne ((hWk.2.2.2.2.1 i (by omega)).1) eP (by simp))]; exact eP
        have j96 := IsList.setO (e := .inr (8, [.int (nI (tC v i)), .int (nI (tK v i + n)), .int (nI ((tI v i) ||| k))])) (hP) ((hWk.2.2.2.2.1 i (by omega)).1) (by decide)
        rw [← hσ90] at j96
        refine lv_aload_n F.x F.cd dX2_pour_79 rfl (lv_at hl 1 rfl) ?_
        refine lv_dup F.x F.cd dX2_pour_80 rfl ?_
        refine s_get F hW (ci := 1) (C := RX2) (T := TX2) (N := 6) (v := .int (nI (v 3))) (f92) rfl in_X2 3 (by decide) q168 (fun _ h9 => h9) rfl dX2_pour_81 ?_
        refine lv_iload_n F.x F.cd dX2_pour_84 rfl (lv_at hl 3 rfl) ?_
        refine a_iadd (v := (nI (v 3 + n))) F (nI_add _ _) dX2_pour_85 ?_
        refine s_put F hW (ci := 1) (C := RX2) (T := TX2) (N := 6) (v := .int (nI (v 3 + n))) (ty := .int) (f92) (hWk.2.1) rfl in_X2 tyX2_ok nmX2 3 (by decide) q168 (fun _ h9 => h9) rfl (by decide +kernel) rfl rfl (Nat.le_of_ble_eq_true rfl) dX2_pour_86 (fun H locs hW => ?_)
        obtain ⟨σ98, hσ98⟩ : ∃ z, z = sset σ90 (L 0) (.inr (1, [.ref (L 1), .ref (L 2), .int (nI (v 2)), .int (nI (v 3 + n)), .int (nI (v 4)), .int (nI (v 5))])) := ⟨_, rfl⟩
        have hW : Hl g σ98 H locs := by rw [hσ98]; exact hW
        have w98 : σ98 (L 0) = some (.inr (1, [.ref (L 1), .ref (L 2), .int (nI (v 2)), .int (nI (v 3 + n)), .int (nI (v 4)), .int (nI (v 5))])) := by rw [hσ98]; exact sset_eq
        have f99 : σ98 (L 1) = some (.inr (2, [.int mcT, .ref (L 3), .int (nI (v 0))])) := by rw [hσ98, sset_ne (sto_ne f92 f93 (by simp))]; exact f93
        have j100 := IsList.setO (e := .inr (1, [.ref (L 1), .ref (L 2), .int (nI (v 2)), .int (nI (v 3 + n)), .int (nI (v 4)), .int (nI (v 5))])) (j94) (f92) (by decide)
        rw [← hσ98] at j100
        have f101 : σ98 (L 2) = some (.inr (2, [.int mcP, .ref (L 4), .int (nI (v 1))])) := by rw [hσ98, sset_ne (sto_ne f92 f95 (by simp))]; exact f95
        have j102 := IsList.setO (e := .inr (1, [.ref (L 1), .ref (L 2), .int (nI (v 2)), .int (nI (v 3 + n)), .int (nI (v 4)), .int (nI (v 5))])) (j96) (f92) (by decide)
        rw [← hσ98] at j102
        have f103 : σ98 (L (10 + i)) = some (.inr (8, [.int (nI (tC v i)), .int (nI (tK v i + n)), .int (nI ((tI v i) ||| k))])) := by rw [hσ98, sset_ne (sto_ne f92 w91 (by simp))]; exact w91
        refine lv_aload F.x F.cd dX2_pour_89 (lv_at hl 0 rfl) ?_
        refine s_getN F hW (ci := 8) (C := RX4) (T := TX4) (N := 3) (v := .int (nI (tK v i + n))) (f103) rfl in_X4 1 (by decide) q951 (fun _ h9 => h9) rfl dX2_pour_91 ?_
        subst hQ
        exact s_reti (v := (nI (tK v i + n))) F hW rfl (⟨_, _, by rw [pourR, if_pos hd7, if_pos hd35, cl_nI (by omega), cl_nI (by omega), cl_nI (by omega), if_pos (of_decide_eq_true hd69)], rfl, Did.of (by rw [hσ98, hσ90]; exact (hWk.setT hi (by omega)).setW (by rw [upT_lo (by omega)]; exact hI.1)) (by rw [hσ98, hσ90]; exact (Fr.refl.set (hWk.foT hi)).set hWk.foW) (by rw [pourV, upW_lo (by omega), upT_lo (by omega)]) (by rw [pourV, upW_lo (by omega), upT_lo (by omega)])⟩) ⟨(Nat.le_of_ble_eq_true rfl), (Nat.le_of_ble_eq_true rfl)⟩ dX2_pour_94
set_option maxHeartbeats 4000000 in
theorem k_X2_draw (g : Gh) (l : Launch) (σ : Sto) (L v : Nat → Nat) (x y : Int32) (hWk : IsWorks g σ L v) (hI : Inv v) : Ct g l yX2_draw cX2_draw 4 (some .int) ({ frames := 8, cells := 3, slots := 21, locals := 171 } : Room) [.ref (L 0), .int x, .int y] σ (fun r σ' => ∃ z v', drawR v x y = .ok (z, v') ∧ r = some (.int z) ∧ Did g σ L v σ' v') (fun q E σ' => ∃ tx, drawR v x y = .error tx ∧ thr g σ tx q E σ') := by
  refine Ct.body (by decide) (Nat.le_of_ble_eq_true rfl) ?_
  intro p_ e_ s_ m_ args_ below_ meth_ c_ ls H locs Q F hW hl hQ
  have hl : lv_has ls 4 [(0, .ref (L 0)), (1, .int x), (2, .int y)] := hl
  have hT := hWk.2.2.1
  have hP := hWk.2.2.2.1
  obtain ⟨mcT, nT, fT, eT, bT, -⟩ := id hT
  obtain ⟨mcP, nP, fP, eP, bP, -⟩ := id hP
  have hv0 := hI.1
  have hv1 := hI.2.1
  refine lv_aload_n F.x F.cd dX2_draw_0 rfl (lv_at hl 0 rfl) ?_
  refine lv_iload_n F.x F.cd dX2_draw_1 rfl (lv_at hl 1 rfl) ?_
  refine s_callV (As := [.int x]) (rest := []) (C := RX2) (T := TX2) (N := 6) (n := 1) F hW (k_X2_hasTank g l σ L v x hWk hI) (hWk.1) rfl q1247 q1248 q1249 q69 q1250 rfl (by decide +kernel) rfl ⟨⟨Nat.le_of_ble_eq_true rfl, Nat.le_of_ble_eq_true rfl⟩, ⟨(Nat.le_of_ble_eq_true rfl), (Nat.le_of_ble_eq_true rfl)⟩⟩ (Nat.le_of_ble_eq_true rfl) hl.1 rfl dX2_draw_2 cX_no (fun r1 σ1 H locs hp1 hW => ?_)
  obtain ⟨rfl, hs1⟩ := hp1
  rw [hs1] at hW
  refine W.eq (g2 := F0 m_ 5 ls (.int (bI (inN x (v 0))) :: [])) rfl ?_
  refine s_ldcS F q1251 dX2_draw_5 ?_
  refine s_callSN (As := [.int (bI (inN x (v 0))), .ref (gS g "FilterWaterworks$Works" 79)]) (rest := []) (n := 2) F hW (k_X1_demand g l σ (inN x (v 0)) (gS g "FilterWaterworks$Works" 79) "index" ⟨"FilterWaterworks$Works", 79, q1251, rfl⟩) q1210 q1211 q68 q1212 (by decide +kernel) rfl ⟨⟨Nat.le_of_ble_eq_true rfl, Nat.le_of_ble_eq_true rfl⟩, ⟨(Nat.le_of_ble_eq_true rfl), (Nat.le_of_ble_eq_true rfl)⟩⟩ (Nat.le_of_ble_eq_true rfl) hl.1 rfl dX2_draw_7 (by subst hQ; exact cX_out F ⟨(Nat.le_of_ble_eq_true rfl), (Nat.le_of_ble_eq_true rfl)⟩ (fun q9 E9 σ9 hp9 => ⟨"index", by rw [drawR, if_neg (by rw [hp9.1]; decide)], hp9.2⟩)) (fun r2 σ2 H locs hp2 hW => ?_)
  obtain ⟨rfl, hs2, hd7⟩ := hp2
  rw [hs2] at hW
  refine W.eq (g2 := F0 m_ 10 ls ([])) rfl ?_
  obtain ⟨i, hi, rfl⟩ := (inN_iff (show v 0 < 2 ^ 30 by omega)).mp hd7
  refine lv_iload_n F.x F.cd dX2_draw_10 rfl (lv_at hl 2 rfl) ?_
  refine lv_iconst (v := (nI 1)) F.x F.cd dX2_draw_11 (by decide) ?_
  refine lv_sipush (v := (nI 999)) F.x F.cd dX2_draw_12 (by decide) ?_
  refine s_callSN (As := [.int y, .int (nI 1), .int (nI 999)]) (rest := []) (n := 3) F hW (k_X1_isBetween g l σ y (nI 1) (nI 999)) q1206 q1207 q68 q1208 (by decide +kernel) rfl ⟨⟨Nat.le_of_ble_eq_true rfl, Nat.le_of_ble_eq_true rfl⟩, ⟨(Nat.le_of_ble_eq_true rfl), (Nat.le_of_ble_eq_true rfl)⟩⟩ (Nat.le_of_ble_eq_true rfl) hl.1 rfl dX2_draw_15 cX_no (fun r3 σ3 H locs hp3 hW => ?_)
  obtain ⟨rfl, hs3⟩ := hp3
  rw [hs3] at hW
  refine W.eq (g2 := F0 m_ 18 ls (.int (bI (btw y (nI 1) (nI 999))) :: [])) rfl ?_
  refine s_ldcS F q1209 dX2_draw_18 ?_
  refine s_callSN (As := [.int (bI (btw y (nI 1) (nI 999))), .ref (gS g "FilterWaterworks$Works" 64)]) (rest := []) (n := 2) F hW (k_X1_demand g l σ (btw y (nI 1) (nI 999)) (gS g "FilterWaterworks$Works" 64) "argument" ⟨"FilterWaterworks$Works", 64, q1209, rfl⟩) q1210 q1211 q68 q1212 (by decide +kernel) rfl ⟨⟨Nat.le_of_ble_eq_true rfl, Nat.le_of_ble_eq_true rfl⟩, ⟨(Nat.le_of_ble_eq_true rfl), (Nat.le_of_ble_eq_true rfl)⟩⟩ (Nat.le_of_ble_eq_true rfl) hl.1 rfl dX2_draw_20 (by subst hQ; exact cX_out F ⟨(Nat.le_of_ble_eq_true rfl), (Nat.le_of_ble_eq_true rfl)⟩ (fun q9 E9 σ9 hp9 => ⟨"argument", by rw [drawR, if_pos hd7, if_neg (by rw [hp9.1]; decide)], hp9.2⟩)) (fun r4 σ4 H locs hp4 hW => ?_)
  obtain ⟨rfl, hs4, hd20⟩ := hp4
  rw [hs4] at hW
  refine W.eq (g2 := F0 m_ 23 ls ([])) rfl ?_
  obtain ⟨n, hn1, hn2, rfl⟩ := (btw_iff (by decide) (by decide)).mp hd20
  have hti := hI.tk hi
  refine lv_aload_n F.x F.cd dX2_draw_23 rfl (lv_at hl 0 rfl) ?_
  refine s_get F hW (ci := 1) (C := RX2) (T := TX2) (N := 6) (v := .ref (L 1)) (hWk.1) rfl in_X2 0 (by decide) q159 (fun _ h9 => h9) rfl dX2_draw_24 ?_
  refine lv_iload_n F.x F.cd dX2_draw_27 rfl (lv_at hl 1 rfl) ?_
  refine s_callF (As := [.int (nI i)]) (rest := []) (C := RJ2) (T := TJ2) (N := 3) (n := 1) F hW (k_J2_get g l σ _ _ _ _ i hT (by omega)) (eT) rfl (List.mem_of_getElem? (i := 1) rfl) q693 q328 q330 q72 q332 (by decide +kernel) rfl ⟨⟨Nat.le_of_ble_eq_true rfl, Nat.le_of_ble_eq_true rfl⟩, ⟨(Nat.le_of_ble_eq_true rfl), (Nat.le_of_ble_eq_true rfl)⟩⟩ (Nat.le_of_ble_eq_true rfl) hl.1 rfl dX2_draw_28 cX_no (fun r5 σ5 H locs hp5 hW => ?_)
  obtain ⟨rfl, hs5⟩ := hp5
  rw [hs5] at hW
  refine W.eq (g2 := F0 m_ 33 ls (.ref (L (10 + i)) :: [])) rfl ?_
  refine s_cast_ F hW (C := RX4) (T := TX4) (N := 3) ((hWk.2.2.2.2.1 i (by omega)).1) rfl q790 dX2_draw_33 ?_
  refine lv_astore_n (lv' := [(3, .ref (L (10 + i))), (0, .ref (L 0)), (1, .int (nI i)), (2, .int (nI n))]) F.x F.cd dX2_draw_36 rfl hl (by decide) rfl (fun ls hl => ?_)
  refine lv_iload_n F.x F.cd dX2_draw_37 rfl (lv_at hl 3 rfl) ?_
  refine lv_aload_n F.x F.cd dX2_draw_38 rfl (lv_at hl 0 rfl) ?_
  refine s_getN F hW (ci := 8) (C := RX4) (T := TX4) (N := 3) (v := .int (nI (tK v i))) ((hWk.2.2.2.2.1 i (by omega)).1) rfl in_X4 1 (by decide) q951 (fun _ h9 => h9) rfl dX2_draw_39 ?_
  refine n_icmp_gt (a := n) (b := tK v i) (tgt := 49) F (by omega) (by omega) dX2_draw_42 (by decide) (fun c_42 => ?_) (fun c_42 => ?_)
  · refine lv_iconst (v := (nI 0)) F.x F.cd dX2_draw_49 (by decide) ?_
    refine W.eq (g2 := F0 m_ 50 ls (.int (bI (decide (n ≤ tK v i))) :: [])) (by rw [show decide (n ≤ tK v i) = false by simp; omega]; rfl) ?_
    refine s_ldcS F q1261 dX2_draw_50 ?_
    refine s_callSN (As := [.int (bI (decide (n ≤ tK v i))), .ref (gS g "FilterWaterworks$Works" 90)]) (rest := []) (n := 2) F hW (k_X1_demand g l σ (decide (n ≤ tK v i)) (gS g "FilterWaterworks$Works" 90) "rule" ⟨"FilterWaterworks$Works", 90, q1261, rfl⟩) q1210 q1211 q68 q1212 (by decide +kernel) rfl ⟨⟨Nat.le_of_ble_eq_true rfl, Nat.le_of_ble_eq_true rfl⟩, ⟨(Nat.le_of_ble_eq_true rfl), (Nat.le_of_ble_eq_true rfl)⟩⟩ (Nat.le_of_ble_eq_true rfl) hl.1 rfl dX2_draw_52 (by subst hQ; exact cX_out F ⟨(Nat.le_of_ble_eq_true rfl), (Nat.le_of_ble_eq_true rfl)⟩ (fun q9 E9 σ9 hp9 => ⟨"rule", by rw [drawR, if_pos hd7, if_pos hd20, cl_nI (by omega), cl_nI (by omega), if_neg (of_decide_eq_false hp9.1)], hp9.2⟩)) (fun r6 σ6 H locs hp6 hW => ?_)
    obtain ⟨rfl, hs6, hd52⟩ := hp6
    rw [hs6] at hW
    refine W.eq (g2 := F0 m_ 55 ls ([])) rfl ?_
    have hny := of_decide_eq_true hd52
    refine lv_aload_n F.x F.cd dX2_draw_55 rfl (lv_at hl 0 rfl) ?_
    refine lv_iload_n F.x F.cd dX2_draw_56 rfl (lv_at hl 3 rfl) ?_
    refine s_callV (As := [.int (nI n)]) (rest := []) (C := RX4) (T := TX4) (N := 3) (n := 1) F hW (k_X4_drain g l σ (L (10 + i)) (tC v i) (tK v i) (tI v i) n ((hWk.2.2.2.2.1 i (by omega)).1) ((hWk.2.2.2.2.1 i (by omega)).2) (by omega) (by omega)) ((hWk.2.2.2.2.1 i (by omega)).1) rfl q1270 q1271 q1272 q94 q1273 rfl (by decide +kernel) rfl ⟨⟨Nat.le_of_ble_eq_true rfl, Nat.le_of_ble_eq_true rfl⟩, ⟨(Nat.le_of_ble_eq_true rfl), (Nat.le_of_ble_eq_true rfl)⟩⟩ (Nat.le_of_ble_eq_true rfl) hl.1 rfl dX2_draw_57 cX_no (fun r7 σ7 H locs hp7 hW => ?_)
    obtain ⟨rfl, hσ7⟩ := hp7
    refine W.eq (g2 := F0 m_ 60 ls ([])) rfl ?_
    have w8 : σ7 (L (10 + i)) = some (.inr (8, [.int (nI (tC v i)), .int (nI ((tK v i) - n)), .int (nI (if (tK v i) - n = 0 then 0 else tI v i))])) := by rw [hσ7]; exact sset_eq
    have f9 : σ7 (L 0) = some (.inr (1, [.ref (L 1), .ref (L 2), .int (nI (v 2)), .int (nI (v 3)), .int (nI (v 4)), .int (nI (v 5))])) := by rw [hσ7, sset_ne (sto_ne ((hWk.2.2.2.2.1 i (by omega)).1) hWk.1 (by simp))]; exact hWk.1
    have f10 : σ7 (L 1) = some (.inr (2, [.int mcT, .ref (L 3), .int (nI (v 0))])) := by rw [hσ7, sset_ne (sto_ne ((hWk.2.2.2.2.1 i (by omega)).1) eT (by simp))]; exact eT
    have j11 := IsList.setO (e := .inr (8, [.int (nI (tC v i)), .int (nI ((tK v i) - n)), .int (nI (if (tK v i) - n = 0 then 0 else tI v i))])) (hT) ((hWk.2.2.2.2.1 i (by omega)).1) (by decide)
    rw [← hσ7] at j11
    have f12 : σ7 (L 2) = some (.inr (2, [.int mcP, .ref (L 4), .int (nI (v 1))])) := by rw [hσ7, sset_ne (sto_ne ((hWk.2.2.2.2.1 i (by omega)).1) eP (by simp))]; exact eP
    have j13 := IsList.setO (e := .inr (8, [.int (nI (tC v i)), .int (nI ((tK v i) - n)), .int (nI (if (tK v i) - n = 0 then 0 else tI v i))])) (hP) ((hWk.2.2.2.2.1 i (by omega)).1) (by decide)
    rw [← hσ7] at j13
    refine lv_aload_n F.x F.cd dX2_draw_60 rfl (lv_at hl 1 rfl) ?_
    refine lv_dup F.x F.cd dX2_draw_61 rfl ?_
    refine s_get F hW (ci := 1) (C := RX2) (T := TX2) (N := 6) (v := .int (nI (v 4))) (f9) rfl in_X2 4 (by decide) q170 (fun _ h9 => h9) rfl dX2_draw_62 ?_
    refine lv_iload_n F.x F.cd dX2_draw_65 rfl (lv_at hl 3 rfl) ?_
    refine a_iadd (v := (nI (v 4 + n))) F (nI_add _ _) dX2_draw_66 ?_
    refine s_put F hW (ci := 1) (C := RX2) (T := TX2) (N := 6) (v := .int (nI (v 4 + n))) (ty := .int) (f9) (hWk.2.1) rfl in_X2 tyX2_ok nmX2 4 (by decide) q170 (fun _ h9 => h9) rfl (by decide +kernel) rfl rfl (Nat.le_of_ble_eq_true rfl) dX2_draw_67 (fun H locs hW => ?_)
    obtain ⟨σ15, hσ15⟩ : ∃ z, z = sset σ7 (L 0) (.inr (1, [.ref (L 1), .ref (L 2), .int (nI (v 2)), .int (nI (v 3)), .int (nI (v 4 + n)), .int (nI (v 5))])) := ⟨_, rfl⟩
    have hW : Hl g σ15 H locs := by rw [hσ15]; exact hW
    have w15 : σ15 (L 0) = some (.inr (1, [.ref (L 1), .ref (L 2), .int (nI (v 2)), .int (nI (v 3)), .int (nI (v 4 + n)), .int (nI (v 5))])) := by rw [hσ15]; exact sset_eq
    have f16 : σ15 (L 1) = some (.inr (2, [.int mcT, .ref (L 3), .int (nI (v 0))])) := by rw [hσ15, sset_ne (sto_ne f9 f10 (by simp))]; exact f10
    have j17 := IsList.setO (e := .inr (1, [.ref (L 1), .ref (L 2), .int (nI (v 2)), .int (nI (v 3)), .int (nI (v 4 + n)), .int (nI (v 5))])) (j11) (f9) (by decide)
    rw [← hσ15] at j17
    have f18 : σ15 (L 2) = some (.inr (2, [.int mcP, .ref (L 4), .int (nI (v 1))])) := by rw [hσ15, sset_ne (sto_ne f9 f12 (by simp))]; exact f12
    have j19 := IsList.setO (e := .inr (1, [.ref (L 1), .ref (L 2), .int (nI (v 2)), .int (nI (v 3)), .int (nI (v 4 + n)), .int (nI (v 5))])) (j13) (f9) (by decide)
    rw [← hσ15] at j19
    have f20 : σ15 (L (10 + i)) = some (.inr (8, [.int (nI (tC v i)), .int (nI ((tK v i) - n)), .int (nI (if (tK v i) - n = 0 then 0 else tI v i))])) := by rw [hσ15, sset_ne (sto_ne f9 w8 (by simp))]; exact w8
    refine lv_aload_n F.x F.cd dX2_draw_70 rfl (lv_at hl 0 rfl) ?_
    refine s_getN F hW (ci := 8) (C := RX4) (T := TX4) (N := 3) (v := .int (nI ((tK v i) - n))) (f20) rfl in_X4 1 (by decide) q951 (fun _ h9 => h9) rfl dX2_draw_71 ?_
    subst hQ
    exact s_reti (v := (nI ((tK v i) - n))) F hW rfl (⟨_, _, by rw [drawR, if_pos hd7, if_pos hd20, cl_nI (by omega), cl_nI (by omega), if_pos (of_decide_eq_true hd52)], rfl, Did.of (by rw [hσ15, hσ7]; exact (hWk.setT hi (by omega)).setW (by rw [upT_lo (by omega)]; exact hI.1)) (by rw [hσ15, hσ7]; exact (Fr.refl.set (hWk.foT hi)).set hWk.foW) (by rw [drawV, upW_lo (by omega), upT_lo (by omega)]) (by rw [drawV, upW_lo (by omega), upT_lo (by omega)])⟩) ⟨(Nat.le_of_ble_eq_true rfl), (Nat.le_of_ble_eq_true rfl)⟩ dX2_draw_74
  · refine lv_iconst (v := (nI 1)) F.x F.cd dX2_draw_45 (by decide) ?_
    refine lv_goto (tgt := 50) F.x F.cd dX2_draw_46 (by decide) ?_
    refine W.eq (g2 := F0 m_ 50 ls (.int (bI (decide (n ≤ tK v i))) :: [])) (by rw [show decide (n ≤ tK v i) = true by simp; omega]; rfl) ?_
    refine s_ldcS F q1261 dX2_draw_50 ?_
    refine s_callSN (As := [.int (bI (decide (n ≤ tK v i))), .ref (gS g "FilterWaterworks$Works" 90)]) (rest := []) (n := 2) F hW (k_X1_demand g l σ (decide (n ≤ tK v i)) (gS g "FilterWaterworks$Works" 90) "rule" ⟨"FilterWaterworks$Works", 90, q1261, rfl⟩) q1210 q1211 q68 q1212 (by decide +kernel) rfl ⟨⟨Nat.le_of_ble_eq_true rfl, Nat.le_of_ble_eq_true rfl⟩, ⟨(Nat.le_of_ble_eq_true rfl), (Nat.le_of_ble_eq_true rfl)⟩⟩ (Nat.le_of_ble_eq_true rfl) hl.1 rfl dX2_draw_52 (by subst hQ; exact cX_out F ⟨(Nat.le_of_ble_eq_true rfl), (Nat.le_of_ble_eq_true rfl)⟩ (fun q9 E9 σ9 hp9 => ⟨"rule", by rw [drawR, if_pos hd7, if_pos hd20, cl_nI (by omega), cl_nI (by omega), if_neg (of_decide_eq_false hp9.1)], hp9.2⟩)) (fun r21 σ21 H locs hp21 hW => ?_)
    obtain ⟨rfl, hs21, hd52⟩ := hp21
    rw [hs21] at hW
    refine W.eq (g2 := F0 m_ 55 ls ([])) rfl ?_
    have hny := of_decide_eq_true hd52
    refine lv_aload_n F.x F.cd dX2_draw_55 rfl (lv_at hl 0 rfl) ?_
    refine lv_iload_n F.x F.cd dX2_draw_56 rfl (lv_at hl 3 rfl) ?_
    refine s_callV (As := [.int (nI n)]) (rest := []) (C := RX4) (T := TX4) (N := 3) (n := 1) F hW (k_X4_drain g l σ (L (10 + i)) (tC v i) (tK v i) (tI v i) n ((hWk.2.2.2.2.1 i (by omega)).1) ((hWk.2.2.2.2.1 i (by omega)).2) (by omega) (by omega)) ((hWk.2.2.2.2.1 i (by omega)).1) rfl q1270 q1271 q1272 q94 q1273 rfl (by decide +kernel) rfl ⟨⟨Nat.le_of_ble_eq_true rfl, Nat.le_of_ble_eq_true rfl⟩, ⟨(Nat.le_of_ble_eq_true rfl), (Nat.le_of_ble_eq_true rfl)⟩⟩ (Nat.le_of_ble_eq_true rfl) hl.1 rfl dX2_draw_57 cX_no (fun r22 σ22 H locs hp22 hW => ?_)
    obtain ⟨rfl, hσ22⟩ := hp22
    refine W.eq (g2 := F0 m_ 60 ls ([])) rfl ?_
    have w23 : σ22 (L (10 + i)) = some (.inr (8, [.int (nI (tC v i)), .int (nI ((tK v i) - n)), .int (nI (if (tK v i) - n = 0 then 0 else tI v i))])) := by rw [hσ22]; exact sset_eq
    have f24 : σ22 (L 0) = some (.inr (1, [.ref (L 1), .ref (L 2), .int (nI (v 2)), .int (nI (v 3)), .int (nI (v 4)), .int (nI (v 5))])) := by rw [hσ22, sset_ne (sto_ne ((hWk.2.2.2.2.1 i (by omega)).1) hWk.1 (by simp))]; exact hWk.1
    have f25 : σ22 (L 1) = some (.inr (2, [.int mcT, .ref (L 3), .int (nI (v 0))])) := by rw [hσ22, sset_ne (sto_ne ((hWk.2.2.2.2.1 i (by omega)).1) eT (by simp))]; exact eT
    have j26 := IsList.setO (e := .inr (8, [.int (nI (tC v i)), .int (nI ((tK v i) - n)), .int (nI (if (tK v i) - n = 0 then 0 else tI v i))])) (hT) ((hWk.2.2.2.2.1 i (by omega)).1) (by decide)
    rw [← hσ22] at j26
    have f27 : σ22 (L 2) = some (.inr (2, [.int mcP, .ref (L 4), .int (nI (v 1))])) := by rw [hσ22, sset_ne (sto_ne ((hWk.2.2.2.2.1 i (by omega)).1) eP (by simp))]; exact eP
    have j28 := IsList.setO (e := .inr (8, [.int (nI (tC v i)), .int (nI ((tK v i) - n)), .int (nI (if (tK v i) - n = 0 then 0 else tI v i))])) (hP) ((hWk.2.2.2.2.1 i (by omega)).1) (by decide)
    rw [← hσ22] at j28
    refine lv_aload_n F.x F.cd dX2_draw_60 rfl (lv_at hl 1 rfl) ?_
    refine lv_dup F.x F.cd dX2_draw_61 rfl ?_
    refine s_get F hW (ci := 1) (C := RX2) (T := TX2) (N := 6) (v := .int (nI (v 4))) (f24) rfl in_X2 4 (by decide) q170 (fun _ h9 => h9) rfl dX2_draw_62 ?_
    refine lv_iload_n F.x F.cd dX2_draw_65 rfl (lv_at hl 3 rfl) ?_
    refine a_iadd (v := (nI (v 4 + n))) F (nI_add _ _) dX2_draw_66 ?_
    refine s_put F hW (ci := 1) (C := RX2) (T := TX2) (N := 6) (v := .int (nI (v 4 + n))) (ty := .int) (f24) (hWk.2.1) rfl in_X2 tyX2_ok nmX2 4 (by decide) q170 (fun _ h9 => h9) rfl (by decide +kernel) rfl rfl (Nat.le_of_ble_eq_true rfl) dX2_draw_67 (fun H locs hW => ?_)
    obtain ⟨σ30, hσ30⟩ : ∃ z, z = sset σ22 (L 0) (.inr (1, [.ref (L 1), .ref (L 2), .int (nI (v 2)), .int (nI (v 3)), .int (nI (v 4 + n)), .int (nI (v 5))])) := ⟨_, rfl⟩
    have hW : Hl g σ30 H locs := by rw [hσ30]; exact hW
    have w30 : σ30 (L 0) = some (.inr (1, [.ref (L 1), .ref (L 2), .int (nI (v 2)), .int (nI (v 3)), .int (nI (v 4 + n)), .int (nI (v 5))])) := by rw [hσ30]; exact sset_eq
    have f31 : σ30 (L 1) = some (.inr (2, [.int mcT, .ref (L 3), .int (nI (v 0))])) := by rw [hσ30, sset_ne (sto_ne f24 f25 (by simp))]; exact f25
    have j32 := IsList.setO (e := .inr (1, [.ref (L 1), .ref (L 2), .int (nI (v 2)), .int (nI (v 3)), .int (nI (v 4 + n)), .int (nI (v 5))])) (j26) (f24) (by decide)
    rw [← hσ30] at j32
    have f33 : σ30 (L 2) = some (.inr (2, [.int mcP, .ref (L 4), .int (nI (v 1))])) := by rw [hσ30, sset_ne (sto_ne f24 f27 (by simp))]; exact f27
    have j34 := IsList.setO (e := .inr (1, [.ref (L 1), .ref (L 2), .int (nI (v 2)), .int (nI (v 3)), .int (nI (v 4 + n)), .int (nI (v 5))])) (j28) (f24) (by decide)
    rw [← hσ30] at j34
    have f35 : σ30 (L (10 + i)) = some (.inr (8, [.int (nI (tC v i)), .int (nI ((tK v i) - n)), .int (nI (if (tK v i) - n = 0 then 0 else tI v i))])) := by rw [hσ30, sset_ne (sto_ne f24 w23 (by simp))]; exact w23
    refine lv_aload_n F.x F.cd dX2_draw_70 rfl (lv_at hl 0 rfl) ?_
    refine s_getN F hW (ci := 8) (C := RX4) (T := TX4) (N := 3) (v := .int (nI ((tK v i) - n))) (f35) rfl in_X4 1 (by decide) q951 (fun _ h9 => h9) rfl dX2_draw_71 ?_
    subst hQ
    exact s_reti (v := (nI ((tK v i) - n))) F hW rfl (⟨_, _, by rw [drawR, if_pos hd7, if_pos hd20, cl_nI (by omega), cl_nI (by omega), if_pos (of_decide_eq_true hd52)], rfl, Did.of (by rw [hσ30, hσ22]; exact (hWk.setT hi (by omega)).setW (by rw [upT_lo (by omega)]; exact hI.1)) (by rw [hσ30, hσ22]; exact (Fr.refl.set (hWk.foT hi)).set hWk.foW) (by rw [drawV, upW_lo (by omega), upT_lo (by omega)]) (by rw [drawV, upW_lo (by omega), upT_lo (by omega)])⟩) ⟨(Nat.le_of_ble_eq_true rfl), (Nat.le_of_ble_eq_true rfl)⟩ dX2_draw_74
set_option maxHeartbeats 4000000 in
theorem k_X2_setValve (g : Gh) (l : Launch) (σ : Sto) (L v : Nat → Nat) (x y : Int32) (hWk : IsWorks g σ L v) (hI : Inv v) : Ct g l yX2_setValve cX2_setValve 4 (some .int) ({ frames := 8, cells := 2, slots := 14, locals := 171 } : Room) [.ref (L 0), .int x, .int y] σ (fun r σ' => ∃ z v', valveR v x y = .ok (z, v') ∧ r = some (.int z) ∧ Did g σ L v σ' v') (fun q E σ' => ∃ tx, valveR v x y = .error tx ∧ thr g σ tx q E σ') := by
  refine Ct.body (by decide) (Nat.le_of_ble_eq_true rfl) ?_
  intro p_ e_ s_ m_ args_ below_ meth_ c_ ls H locs Q F hW hl hQ
  have hl : lv_has ls 4 [(0, .ref (L 0)), (1, .int x), (2, .int y)] := hl
  have hT := hWk.2.2.1
  have hP := hWk.2.2.2.1
  obtain ⟨mcT, nT, fT, eT, bT, -⟩ := id hT
  obtain ⟨mcP, nP, fP, eP, bP, -⟩ := id hP
  have hv0 := hI.1
  have hv1 := hI.2.1
  refine lv_aload_n F.x F.cd dX2_setValve_0 rfl (lv_at hl 0 rfl) ?_
  refine lv_iload_n F.x F.cd dX2_setValve_1 rfl (lv_at hl 1 rfl) ?_
  refine s_callV (As := [.int x]) (rest := []) (C := RX2) (T := TX2) (N := 6) (n := 1) F hW (k_X2_hasPipe g l σ L v x hWk hI) (hWk.1) rfl q1278 q1279 q1280 q69 q1281 rfl (by decide +kernel) rfl ⟨⟨Nat.le_of_ble_eq_true rfl, Nat.le_of_ble_eq_true rfl⟩, ⟨(Nat.le_of_ble_eq_true rfl), (Nat.le_of_ble_eq_true rfl)⟩⟩ (Nat.le_of_ble_eq_true rfl) hl.1 rfl dX2_setValve_2 cX_no (fun r1 σ1 H locs hp1 hW => ?_)
  obtain ⟨rfl, hs1⟩ := hp1
  rw [hs1] at hW
  refine W.eq (g2 := F0 m_ 5 ls (.int (bI (inN x (v 1))) :: [])) rfl ?_
  refine s_ldcS F q1251 dX2_setValve_5 ?_
  refine s_callSN (As := [.int (bI (inN x (v 1))), .ref (gS g "FilterWaterworks$Works" 79)]) (rest := []) (n := 2) F hW (k_X1_demand g l σ (inN x (v 1)) (gS g "FilterWaterworks$Works" 79) "index" ⟨"FilterWaterworks$Works", 79, q1251, rfl⟩) q1210 q1211 q68 q1212 (by decide +kernel) rfl ⟨⟨Nat.le_of_ble_eq_true rfl, Nat.le_of_ble_eq_true rfl⟩, ⟨(Nat.le_of_ble_eq_true rfl), (Nat.le_of_ble_eq_true rfl)⟩⟩ (Nat.le_of_ble_eq_true rfl) hl.1 rfl dX2_setValve_7 (by subst hQ; exact cX_out F ⟨(Nat.le_of_ble_eq_true rfl), (Nat.le_of_ble_eq_true rfl)⟩ (fun q9 E9 σ9 hp9 => ⟨"index", by rw [valveR, if_neg (by rw [hp9.1]; decide)], hp9.2⟩)) (fun r2 σ2 H locs hp2 hW => ?_)
  obtain ⟨rfl, hs2, hd7⟩ := hp2
  rw [hs2] at hW
  refine W.eq (g2 := F0 m_ 10 ls ([])) rfl ?_
  obtain ⟨q, hq, rfl⟩ := (inN_iff (show v 1 < 2 ^ 30 by omega)).mp hd7
  have hpq := hI.pp hq
  refine lv_iload_n F.x F.cd dX2_setValve_10 rfl (lv_at hl 2 rfl) ?_
  refine lv_iconst (v := (nI 0)) F.x F.cd dX2_setValve_11 (by decide) ?_
  refine lv_iconst (v := (nI 4)) F.x F.cd dX2_setValve_12 (by decide) ?_
  refine s_callSN (As := [.int y, .int (nI 0), .int (nI 4)]) (rest := []) (n := 3) F hW (k_X1_isBetween g l σ y (nI 0) (nI 4)) q1206 q1207 q68 q1208 (by decide +kernel) rfl ⟨⟨Nat.le_of_ble_eq_true rfl, Nat.le_of_ble_eq_true rfl⟩, ⟨(Nat.le_of_ble_eq_true rfl), (Nat.le_of_ble_eq_true rfl)⟩⟩ (Nat.le_of_ble_eq_true rfl) hl.1 rfl dX2_setValve_13 cX_no (fun r3 σ3 H locs hp3 hW => ?_)
  obtain ⟨rfl, hs3⟩ := hp3
  rw [hs3] at hW
  refine W.eq (g2 := F0 m_ 16 ls (.int (bI (btw y (nI 0) (nI 4))) :: [])) rfl ?_
  refine s_ldcS F q1209 dX2_setValve_16 ?_
  refine s_callSN (As := [.int (bI (btw y (nI 0) (nI 4))), .ref (gS g "FilterWaterworks$Works" 64)]) (rest := []) (n := 2) F hW (k_X1_demand g l σ (btw y (nI 0) (nI 4)) (gS g "FilterWaterworks$Works" 64) "argument" ⟨"FilterWaterworks$Works", 64, q1209, rfl⟩) q1210 q1211 q68 q1212 (by decide +kernel) rfl ⟨⟨Nat.le_of_ble_eq_true rfl, Nat.le_of_ble_eq_true rfl⟩, ⟨(Nat.le_of_ble_eq_true rfl), (Nat.le_of_ble_eq_true rfl)⟩⟩ (Nat.le_of_ble_eq_true rfl) hl.1 rfl dX2_setValve_18 (by subst hQ; exact cX_out F ⟨(Nat.le_of_ble_eq_true rfl), (Nat.le_of_ble_eq_true rfl)⟩ (fun q9 E9 σ9 hp9 => ⟨"argument", by rw [valveR, if_pos hd7, if_neg (by rw [hp9.1]; decide)], hp9.2⟩)) (fun r4 σ4 H locs hp4 hW => ?_)
  obtain ⟨rfl, hs4, hd18⟩ := hp4
  rw [hs4] at hW
  refine W.eq (g2 := F0 m_ 21 ls ([])) rfl ?_
  obtain ⟨n, hn1, hn2, rfl⟩ := (btw_iff (by decide) (by decide)).mp hd18
  refine lv_aload_n F.x F.cd dX2_setValve_21 rfl (lv_at hl 0 rfl) ?_
  refine s_get F hW (ci := 1) (C := RX2) (T := TX2) (N := 6) (v := .ref (L 2)) (hWk.1) rfl in_X2 1 (by decide) q162 (fun _ h9 => h9) rfl dX2_setValve_22 ?_
  refine lv_iload_n F.x F.cd dX2_setValve_25 rfl (lv_at hl 1 rfl) ?_
  refine s_callF (As := [.int (nI q)]) (rest := []) (C := RJ2) (T := TJ2) (N := 3) (n := 1) F hW (k_J2_get g l σ _ _ _ _ q hP (by omega)) (eP) rfl (List.mem_of_getElem? (i := 1) rfl) q693 q328 q330 q72 q332 (by decide +kernel) rfl ⟨⟨Nat.le_of_ble_eq_true rfl, Nat.le_of_ble_eq_true rfl⟩, ⟨(Nat.le_of_ble_eq_true rfl), (Nat.le_of_ble_eq_true rfl)⟩⟩ (Nat.le_of_ble_eq_true rfl) hl.1 rfl dX2_setValve_26 cX_no (fun r5 σ5 H locs hp5 hW => ?_)
  obtain ⟨rfl, hs5⟩ := hp5
  rw [hs5] at hW
  refine W.eq (g2 := F0 m_ 31 ls (.ref (L (100 + q)) :: [])) rfl ?_
  refine s_cast_ F hW (C := RX5) (T := TX5) (N := 7) ((hWk.2.2.2.2.2.1 q (by omega)).1) rfl q694 dX2_setValve_31 ?_
  refine s_getN F hW (ci := 9) (C := RX5) (T := TX5) (N := 7) (v := .int (nI (pV v q))) ((hWk.2.2.2.2.2.1 q (by omega)).1) rfl in_X5 3 (by decide) q1079 (fun _ h9 => h9) rfl dX2_setValve_34 ?_
  refine lv_istore_n (lv' := [(3, .int (nI (pV v q))), (0, .ref (L 0)), (1, .int (nI q)), (2, .int (nI n))]) F.x F.cd dX2_setValve_37 rfl hl (by decide) rfl (fun ls hl => ?_)
  refine lv_aload_n F.x F.cd dX2_setValve_38 rfl (lv_at hl 1 rfl) ?_
  refine s_get F hW (ci := 1) (C := RX2) (T := TX2) (N := 6) (v := .ref (L 2)) (hWk.1) rfl in_X2 1 (by decide) q162 (fun _ h9 => h9) rfl dX2_setValve_39 ?_
  refine lv_iload_n F.x F.cd dX2_setValve_42 rfl (lv_at hl 2 rfl) ?_
  refine s_callF (As := [.int (nI q)]) (rest := []) (C := RJ2) (T := TJ2) (N := 3) (n := 1) F hW (k_J2_get g l σ _ _ _ _ q hP (by omega)) (eP) rfl (List.mem_of_getElem? (i := 1) rfl) q693 q328 q330 q72 q332 (by decide +kernel) rfl ⟨⟨Nat.le_of_ble_eq_true rfl, Nat.le_of_ble_eq_true rfl⟩, ⟨(Nat.le_of_ble_eq_true rfl), (Nat.le_of_ble_eq_true rfl)⟩⟩ (Nat.le_of_ble_eq_true rfl) hl.1 rfl dX2_setValve_43 cX_no (fun r6 σ6 H locs hp6 hW => ?_)
  obtain ⟨rfl, hs6⟩ := hp6
  rw [hs6] at hW
  refine W.eq (g2 := F0 m_ 48 ls (.ref (L (100 + q)) :: [])) rfl ?_
  refine s_cast_ F hW (C := RX5) (T := TX5) (N := 7) ((hWk.2.2.2.2.2.1 q (by omega)).1) rfl q694 dX2_setValve_48 ?_
  refine lv_iload_n F.x F.cd dX2_setValve_51 rfl (lv_at hl 3 rfl) ?_
  refine s_putN F hW (ci := 9) (C := RX5) (T := TX5) (N := 7) (v := .int (nI n)) (ty := .int) ((hWk.2.2.2.2.2.1 q (by omega)).1) ((hWk.2.2.2.2.2.1 q (by omega)).2) rfl in_X5 tyX5_ok nmX5 3 (by decide) q1079 (fun _ h9 => h9) rfl (by decide +kernel) rfl rfl (Nat.le_of_ble_eq_true rfl) dX2_setValve_52 (fun H locs hW => ?_)
  obtain ⟨σ8, hσ8⟩ : ∃ z, z = sset σ (L (100 + q)) (.inr (9, [.int (nI (pA v q)), .int (nI (pB v q)), .int (nI (pM v q)), .int (nI n), .int (nI (pR v q)), .int (nI (pD v q)), .int (nI (pL v q))])) := ⟨_, rfl⟩
  have hW : Hl g σ8 H locs := by rw [hσ8]; exact hW
  have w8 : σ8 (L (100 + q)) = some (.inr (9, [.int (nI (pA v q)), .int (nI (pB v q)), .int (nI (pM v q)), .int (nI n), .int (nI (pR v q)), .int (nI (pD v q)), .int (nI (pL v q))])) := by rw [hσ8]; exact sset_eq
  have f9 : σ8 (L 0) = some (.inr (1, [.ref (L 1), .ref (L 2), .int (nI (v 2)), .int (nI (v 3)), .int (nI (v 4)), .int (nI (v 5))])) := by rw [hσ8, sset_ne (sto_ne ((hWk.2.2.2.2.2.1 q (by omega)).1) hWk.1 (by simp))]; exact hWk.1
  have f10 : σ8 (L 1) = some (.inr (2, [.int mcT, .ref (L 3), .int (nI (v 0))])) := by rw [hσ8, sset_ne (sto_ne ((hWk.2.2.2.2.2.1 q (by omega)).1) eT (by simp))]; exact eT
  have j11 := IsList.setO (e := .inr (9, [.int (nI (pA v q)), .int (nI (pB v q)), .int (nI (pM v q)), .int (nI n), .int (nI (pR v q)), .int (nI (pD v q)), .int (nI (pL v q))])) (hT) ((hWk.2.2.2.2.2.1 q (by omega)).1) (by decide)
  rw [← hσ8] at j11
  have f12 : σ8 (L 2) = some (.inr (2, [.int mcP, .ref (L 4), .int (nI (v 1))])) := by rw [hσ8, sset_ne (sto_ne ((hWk.2.2.2.2.2.1 q (by omega)).1) eP (by simp))]; exact eP
  have j13 := IsList.setO (e := .inr (9, [.int (nI (pA v q)), .int (nI (pB v q)), .int (nI (pM v q)), .int (nI n), .int (nI (pR v q)), .int (nI (pD v q)), .int (nI (pL v q))])) (hP) ((hWk.2.2.2.2.2.1 q (by omega)).1) (by decide)
  rw [← hσ8] at j13
  refine lv_iload_n F.x F.cd dX2_setValve_55 rfl (lv_at hl 0 rfl) ?_
  subst hQ
  exact s_reti (v := (nI (pV v q))) F hW rfl (⟨_, _, by rw [valveR, if_pos hd7, if_pos hd18, cl_nI (by omega), cl_nI (by omega)], rfl, Did.of (by rw [hσ8]; exact hWk.setP hq hI.1) (by rw [hσ8]; exact Fr.refl.set (hWk.foP hq)) (by rw [upP_lo (by omega)]) (by rw [upP_lo (by omega)])⟩) ⟨(Nat.le_of_ble_eq_true rfl), (Nat.le_of_ble_eq_true rfl)⟩ dX2_setValve_56
set_option maxHeartbeats 4000000 in
theorem k_X2_setLeak (g : Gh) (l : Launch) (σ : Sto) (L v : Nat → Nat) (x y : Int32) (hWk : IsWorks g σ L v) (hI : Inv v) : Ct g l yX2_setLeak cX2_setLeak 4 (some .int) ({ frames := 8, cells := 2, slots := 14, locals := 171 } : Room) [.ref (L 0), .int x, .int y] σ (fun r σ' => ∃ z v', leakR v x y = .ok (z, v') ∧ r = some (.int z) ∧ Did g σ L v σ' v') (fun q E σ' => ∃ tx, leakR v x y = .error tx ∧ thr g σ tx q E σ') := by
  refine Ct.body (by decide) (Nat.le_of_ble_eq_true rfl) ?_
  intro p_ e_ s_ m_ args_ below_ meth_ c_ ls H locs Q F hW hl hQ
  have hl : lv_has ls 4 [(0, .ref (L 0)), (1, .int x), (2, .int y)] := hl
  have hT := hWk.2.2.1
  have hP := hWk.2.2.2.1
  obtain ⟨mcT, nT, fT, eT, bT, -⟩ := id hT
  obtain ⟨mcP, nP, fP, eP, bP, -⟩ := id hP
  have hv0 := hI.1
  have hv1 := hI.2.1
  refine lv_aload_n F.x F.cd dX2_setLeak_0 rfl (lv_at hl 0 rfl) ?_
  refine lv_iload_n F.x F.cd dX2_setLeak_1 rfl (lv_at hl 1 rfl) ?_
  refine s_callV (As := [.int x]) (rest := []) (C := RX2) (T := TX2) (N := 6) (n := 1) F hW (k_X2_hasPipe g l σ L v x hWk hI) (hWk.1) rfl q1278 q1279 q1280 q69 q1281 rfl (by decide +kernel) rfl ⟨⟨Nat.le_of_ble_eq_true rfl, Nat.le_of_ble_eq_true rfl⟩, ⟨(Nat.le_of_ble_eq_true rfl), (Nat.le_of_ble_eq_true rfl)⟩⟩ (Nat.le_of_ble_eq_true rfl) hl.1 rfl dX2_setLeak_2 cX_no (fun r1 σ1 H locs hp1 hW => ?_)
  obtain ⟨rfl, hs1⟩ := hp1
  rw [hs1] at hW
  refine W.eq (g2 := F0 m_ 5 ls (.int (bI (inN x (v 1))) :: [])) rfl ?_
  refine s_ldcS F q1251 dX2_setLeak_5 ?_
  refine s_callSN (As := [.int (bI (inN x (v 1))), .ref (gS g "FilterWaterworks$Works" 79)]) (rest := []) (n := 2) F hW (k_X1_demand g l σ (inN x (v 1)) (gS g "FilterWaterworks$Works" 79) "index" ⟨"FilterWaterworks$Works", 79, q1251, rfl⟩) q1210 q1211 q68 q1212 (by decide +kernel) rfl ⟨⟨Nat.le_of_ble_eq_true rfl, Nat.le_of_ble_eq_true rfl⟩, ⟨(Nat.le_of_ble_eq_true rfl), (Nat.le_of_ble_eq_true rfl)⟩⟩ (Nat.le_of_ble_eq_true rfl) hl.1 rfl dX2_setLeak_7 (by subst hQ; exact cX_out F ⟨(Nat.le_of_ble_eq_true rfl), (Nat.le_of_ble_eq_true rfl)⟩ (fun q9 E9 σ9 hp9 => ⟨"index", by rw [leakR, if_neg (by rw [hp9.1]; decide)], hp9.2⟩)) (fun r2 σ2 H locs hp2 hW => ?_)
  obtain ⟨rfl, hs2, hd7⟩ := hp2
  rw [hs2] at hW
  refine W.eq (g2 := F0 m_ 10 ls ([])) rfl ?_
  obtain ⟨q, hq, rfl⟩ := (inN_iff (show v 1 < 2 ^ 30 by omega)).mp hd7
  have hpq := hI.pp hq
  refine lv_iload_n F.x F.cd dX2_setLeak_10 rfl (lv_at hl 2 rfl) ?_
  refine lv_iconst (v := (nI 0)) F.x F.cd dX2_setLeak_11 (by decide) ?_
  refine lv_bipush (v := (nI 9)) F.x F.cd dX2_setLeak_12 (by decide) ?_
  refine s_callSN (As := [.int y, .int (nI 0), .int (nI 9)]) (rest := []) (n := 3) F hW (k_X1_isBetween g l σ y (nI 0) (nI 9)) q1206 q1207 q68 q1208 (by decide +kernel) rfl ⟨⟨Nat.le_of_ble_eq_true rfl, Nat.le_of_ble_eq_true rfl⟩, ⟨(Nat.le_of_ble_eq_true rfl), (Nat.le_of_ble_eq_true rfl)⟩⟩ (Nat.le_of_ble_eq_true rfl) hl.1 rfl dX2_setLeak_14 cX_no (fun r3 σ3 H locs hp3 hW => ?_)
  obtain ⟨rfl, hs3⟩ := hp3
  rw [hs3] at hW
  refine W.eq (g2 := F0 m_ 17 ls (.int (bI (btw y (nI 0) (nI 9))) :: [])) rfl ?_
  refine s_ldcS F q1209 dX2_setLeak_17 ?_
  refine s_callSN (As := [.int (bI (btw y (nI 0) (nI 9))), .ref (gS g "FilterWaterworks$Works" 64)]) (rest := []) (n := 2) F hW (k_X1_demand g l σ (btw y (nI 0) (nI 9)) (gS g "FilterWaterworks$Works" 64) "argument" ⟨"FilterWaterworks$Works", 64, q1209, rfl⟩) q1210 q1211 q68 q1212 (by decide +kernel) rfl ⟨⟨Nat.le_of_ble_eq_true rfl, Nat.le_of_ble_eq_true rfl⟩, ⟨(Nat.le_of_ble_eq_true rfl), (Nat.le_of_ble_eq_true rfl)⟩⟩ (Nat.le_of_ble_eq_true rfl) hl.1 rfl dX2_setLeak_19 (by subst hQ; exact cX_out F ⟨(Nat.le_of_ble_eq_true rfl), (Nat.le_of_ble_eq_true rfl)⟩ (fun q9 E9 σ9 hp9 => ⟨"argument", by rw [leakR, if_pos hd7, if_neg (by rw [hp9.1]; decide)], hp9.2⟩)) (fun r4 σ4 H locs hp4 hW => ?_)
  obtain ⟨rfl, hs4, hd19⟩ := hp4
  rw [hs4] at hW
  refine W.eq (g2 := F0 m_ 22 ls ([])) rfl ?_
  obtain ⟨n, hn1, hn2, rfl⟩ := (btw_iff (by decide) (by decide)).mp hd19
  refine lv_aload_n F.x F.cd dX2_setLeak_22 rfl (lv_at hl 0 rfl) ?_
  refine s_get F hW (ci := 1) (C := RX2) (T := TX2) (N := 6) (v := .ref (L 2)) (hWk.1) rfl in_X2 1 (by decide) q162 (fun _ h9 => h9) rfl dX2_setLeak_23 ?_
  refine lv_iload_n F.x F.cd dX2_setLeak_26 rfl (lv_at hl 1 rfl) ?_
  refine s_callF (As := [.int (nI q)]) (rest := []) (C := RJ2) (T := TJ2) (N := 3) (n := 1) F hW (k_J2_get g l σ _ _ _ _ q hP (by omega)) (eP) rfl (List.mem_of_getElem? (i := 1) rfl) q693 q328 q330 q72 q332 (by decide +kernel) rfl ⟨⟨Nat.le_of_ble_eq_true rfl, Nat.le_of_ble_eq_true rfl⟩, ⟨(Nat.le_of_ble_eq_true rfl), (Nat.le_of_ble_eq_true rfl)⟩⟩ (Nat.le_of_ble_eq_true rfl) hl.1 rfl dX2_setLeak_27 cX_no (fun r5 σ5 H locs hp5 hW => ?_)
  obtain ⟨rfl, hs5⟩ := hp5
  rw [hs5] at hW
  refine W.eq (g2 := F0 m_ 32 ls (.ref (L (100 + q)) :: [])) rfl ?_
  refine s_cast_ F hW (C := RX5) (T := TX5) (N := 7) ((hWk.2.2.2.2.2.1 q (by omega)).1) rfl q694 dX2_setLeak_32 ?_
  refine s_getN F hW (ci := 9) (C := RX5) (T := TX5) (N := 7) (v := .int (nI (pR v q))) ((hWk.2.2.2.2.2.1 q (by omega)).1) rfl in_X5 4 (by decide) q1082 (fun _ h9 => h9) rfl dX2_setLeak_35 ?_
  refine lv_istore_n (lv' := [(3, .int (nI (pR v q))), (0, .ref (L 0)), (1, .int (nI q)), (2, .int (nI n))]) F.x F.cd dX2_setLeak_38 rfl hl (by decide) rfl (fun ls hl => ?_)
  refine lv_aload_n F.x F.cd dX2_setLeak_39 rfl (lv_at hl 1 rfl) ?_
  refine s_get F hW (ci := 1) (C := RX2) (T := TX2) (N := 6) (v := .ref (L 2)) (hWk.1) rfl in_X2 1 (by decide) q162 (fun _ h9 => h9) rfl dX2_setLeak_40 ?_
  refine lv_iload_n F.x F.cd dX2_setLeak_43 rfl (lv_at hl 2 rfl) ?_
  refine s_callF (As := [.int (nI q)]) (rest := []) (C := RJ2) (T := TJ2) (N := 3) (n := 1) F hW (k_J2_get g l σ _ _ _ _ q hP (by omega)) (eP) rfl (List.mem_of_getElem? (i := 1) rfl) q693 q328 q330 q72 q332 (by decide +kernel) rfl ⟨⟨Nat.le_of_ble_eq_true rfl, Nat.le_of_ble_eq_true rfl⟩, ⟨(Nat.le_of_ble_eq_true rfl), (Nat.le_of_ble_eq_true rfl)⟩⟩ (Nat.le_of_ble_eq_true rfl) hl.1 rfl dX2_setLeak_44 cX_no (fun r6 σ6 H locs hp6 hW => ?_)
  obtain ⟨rfl, hs6⟩ := hp6
  rw [hs6] at hW
  refine W.eq (g2 := F0 m_ 49 ls (.ref (L (100 + q)) :: [])) rfl ?_
  refine s_cast_ F hW (C := RX5) (T := TX5) (N := 7) ((hWk.2.2.2.2.2.1 q (by omega)).1) rfl q694 dX2_setLeak_49 ?_
  refine lv_iload_n F.x F.cd dX2_setLeak_52 rfl (lv_at hl 3 rfl) ?_
  refine s_putN F hW (ci := 9) (C := RX5) (T := TX5) (N := 7) (v := .int (nI n)) (ty := .int) ((hWk.2.2.2.2.2.1 q (by omega)).1) ((hWk.2.2.2.2.2.1 q (by omega)).2) rfl in_X5 tyX5_ok nmX5 4 (by decide) q1082 (fun _ h9 => h9) rfl (by decide +kernel) rfl rfl (Nat.le_of_ble_eq_true rfl) dX2_setLeak_53 (fun H locs hW => ?_)
  obtain ⟨σ8, hσ8⟩ : ∃ z, z = sset σ (L (100 + q)) (.inr (9, [.int (nI (pA v q)), .int (nI (pB v q)), .int (nI (pM v q)), .int (nI (pV v q)), .int (nI n), .int (nI (pD v q)), .int (nI (pL v q))])) := ⟨_, rfl⟩
  have hW : Hl g σ8 H locs := by rw [hσ8]; exact hW
  have w8 : σ8 (L (100 + q)) = some (.inr (9, [.int (nI (pA v q)), .int (nI (pB v q)), .int (nI (pM v q)), .int (nI (pV v q)), .int (nI n), .int (nI (pD v q)), .int (nI (pL v q))])) := by rw [hσ8]; exact sset_eq
  have f9 : σ8 (L 0) = some (.inr (1, [.ref (L 1), .ref (L 2), .int (nI (v 2)), .int (nI (v 3)), .int (nI (v 4)), .int (nI (v 5))])) := by rw [hσ8, sset_ne (sto_ne ((hWk.2.2.2.2.2.1 q (by omega)).1) hWk.1 (by simp))]; exact hWk.1
  have f10 : σ8 (L 1) = some (.inr (2, [.int mcT, .ref (L 3), .int (nI (v 0))])) := by rw [hσ8, sset_ne (sto_ne ((hWk.2.2.2.2.2.1 q (by omega)).1) eT (by simp))]; exact eT
  have j11 := IsList.setO (e := .inr (9, [.int (nI (pA v q)), .int (nI (pB v q)), .int (nI (pM v q)), .int (nI (pV v q)), .int (nI n), .int (nI (pD v q)), .int (nI (pL v q))])) (hT) ((hWk.2.2.2.2.2.1 q (by omega)).1) (by decide)
  rw [← hσ8] at j11
  have f12 : σ8 (L 2) = some (.inr (2, [.int mcP, .ref (L 4), .int (nI (v 1))])) := by rw [hσ8, sset_ne (sto_ne ((hWk.2.2.2.2.2.1 q (by omega)).1) eP (by simp))]; exact eP
  have j13 := IsList.setO (e := .inr (9, [.int (nI (pA v q)), .int (nI (pB v q)), .int (nI (pM v q)), .int (nI (pV v q)), .int (nI n), .int (nI (pD v q)), .int (nI (pL v q))])) (hP) ((hWk.2.2.2.2.2.1 q (by omega)).1) (by decide)
  rw [← hσ8] at j13
  refine lv_iload_n F.x F.cd dX2_setLeak_56 rfl (lv_at hl 0 rfl) ?_
  subst hQ
  exact s_reti (v := (nI (pR v q))) F hW rfl (⟨_, _, by rw [leakR, if_pos hd7, if_pos hd19, cl_nI (by omega), cl_nI (by omega)], rfl, Did.of (by rw [hσ8]; exact hWk.setP hq hI.1) (by rw [hσ8]; exact Fr.refl.set (hWk.foP hq)) (by rw [upP_lo (by omega)]) (by rw [upP_lo (by omega)])⟩) ⟨(Nat.le_of_ble_eq_true rfl), (Nat.le_of_ble_eq_true rfl)⟩ dX2_setLeak_57
set_option maxHeartbeats 4000000 in
theorem k_X2_cleanFilter (g : Gh) (l : Launch) (σ : Sto) (L v : Nat → Nat) (x : Int32) (hWk : IsWorks g σ L v) (hI : Inv v) : Ct g l yX2_cleanFilter cX2_cleanFilter 3 (some .int) ({ frames := 8, cells := 1, slots := 7, locals := 171 } : Room) [.ref (L 0), .int x] σ (fun r σ' => ∃ z v', cleanR v x = .ok (z, v') ∧ r = some (.int z) ∧ Did g σ L v σ' v') (fun q E σ' => ∃ tx, cleanR v x = .error tx ∧ thr g σ tx q E σ') := by
  refine Ct.body (by decide) (Nat.le_of_ble_eq_true rfl) ?_
  intro p_ e_ s_ m_ args_ below_ meth_ c_ ls H locs Q F hW hl hQ
  have hl : lv_has ls 3 [(0, .ref (L 0)), (1, .int x)] := hl
  have hT := hWk.2.2.1
  have hP := hWk.2.2.2.1
  obtain ⟨mcT, nT, fT, eT, bT, -⟩ := id hT
  obtain ⟨mcP, nP, fP, eP, bP, -⟩ := id hP
  have hv0 := hI.1
  have hv1 := hI.2.1
  refine lv_aload_n F.x F.cd dX2_cleanFilter_0 rfl (lv_at hl 0 rfl) ?_
  refine lv_iload_n F.x F.cd dX2_cleanFilter_1 rfl (lv_at hl 1 rfl) ?_
  refine s_callV (As := [.int x]) (rest := []) (C := RX2) (T := TX2) (N := 6) (n := 1) F hW (k_X2_hasPipe g l σ L v x hWk hI) (hWk.1) rfl q1278 q1279 q1280 q69 q1281 rfl (by decide +kernel) rfl ⟨⟨Nat.le_of_ble_eq_true rfl, Nat.le_of_ble_eq_true rfl⟩, ⟨(Nat.le_of_ble_eq_true rfl), (Nat.le_of_ble_eq_true rfl)⟩⟩ (Nat.le_of_ble_eq_true rfl) hl.1 rfl dX2_cleanFilter_2 cX_no (fun r1 σ1 H locs hp1 hW => ?_)
  obtain ⟨rfl, hs1⟩ := hp1
  rw [hs1] at hW
  refine W.eq (g2 := F0 m_ 5 ls (.int (bI (inN x (v 1))) :: [])) rfl ?_
  refine s_ldcS F q1251 dX2_cleanFilter_5 ?_
  refine s_callSN (As := [.int (bI (inN x (v 1))), .ref (gS g "FilterWaterworks$Works" 79)]) (rest := []) (n := 2) F hW (k_X1_demand g l σ (inN x (v 1)) (gS g "FilterWaterworks$Works" 79) "index" ⟨"FilterWaterworks$Works", 79, q1251, rfl⟩) q1210 q1211 q68 q1212 (by decide +kernel) rfl ⟨⟨Nat.le_of_ble_eq_true rfl, Nat.le_of_ble_eq_true rfl⟩, ⟨(Nat.le_of_ble_eq_true rfl), (Nat.le_of_ble_eq_true rfl)⟩⟩ (Nat.le_of_ble_eq_true rfl) hl.1 rfl dX2_cleanFilter_7 (by subst hQ; exact cX_out F ⟨(Nat.le_of_ble_eq_true rfl), (Nat.le_of_ble_eq_true rfl)⟩ (fun q9 E9 σ9 hp9 => ⟨"index", by rw [cleanR, if_neg (by rw [hp9.1]; decide)], hp9.2⟩)) (fun r2 σ2 H locs hp2 hW => ?_)
  obtain ⟨rfl, hs2, hd7⟩ := hp2
  rw [hs2] at hW
  refine W.eq (g2 := F0 m_ 10 ls ([])) rfl ?_
  obtain ⟨q, hq, rfl⟩ := (inN_iff (show v 1 < 2 ^ 30 by omega)).mp hd7
  have hpq := hI.pp hq
  refine lv_aload_n F.x F.cd dX2_cleanFilter_10 rfl (lv_at hl 0 rfl) ?_
  refine s_get F hW (ci := 1) (C := RX2) (T := TX2) (N := 6) (v := .ref (L 2)) (hWk.1) rfl in_X2 1 (by decide) q162 (fun _ h9 => h9) rfl dX2_cleanFilter_11 ?_
  refine lv_iload_n F.x F.cd dX2_cleanFilter_14 rfl (lv_at hl 1 rfl) ?_
  refine s_callF (As := [.int (nI q)]) (rest := []) (C := RJ2) (T := TJ2) (N := 3) (n := 1) F hW (k_J2_get g l σ _ _ _ _ q hP (by omega)) (eP) rfl (List.mem_of_getElem? (i := 1) rfl) q693 q328 q330 q72 q332 (by decide +kernel) rfl ⟨⟨Nat.le_of_ble_eq_true rfl, Nat.le_of_ble_eq_true rfl⟩, ⟨(Nat.le_of_ble_eq_true rfl), (Nat.le_of_ble_eq_true rfl)⟩⟩ (Nat.le_of_ble_eq_true rfl) hl.1 rfl dX2_cleanFilter_15 cX_no (fun r3 σ3 H locs hp3 hW => ?_)
  obtain ⟨rfl, hs3⟩ := hp3
  rw [hs3] at hW
  refine W.eq (g2 := F0 m_ 20 ls (.ref (L (100 + q)) :: [])) rfl ?_
  refine s_cast_ F hW (C := RX5) (T := TX5) (N := 7) ((hWk.2.2.2.2.2.1 q (by omega)).1) rfl q694 dX2_cleanFilter_20 ?_
  refine s_getN F hW (ci := 9) (C := RX5) (T := TX5) (N := 7) (v := .int (nI (pD v q))) ((hWk.2.2.2.2.2.1 q (by omega)).1) rfl in_X5 5 (by decide) q1085 (fun _ h9 => h9) rfl dX2_cleanFilter_23 ?_
  refine lv_istore_n (lv' := [(2, .int (nI (pD v q))), (0, .ref (L 0)), (1, .int (nI q))]) F.x F.cd dX2_cleanFilter_26 rfl hl (by decide) rfl (fun ls hl => ?_)
  refine lv_aload_n F.x F.cd dX2_cleanFilter_27 rfl (lv_at hl 1 rfl) ?_
  refine s_get F hW (ci := 1) (C := RX2) (T := TX2) (N := 6) (v := .ref (L 2)) (hWk.1) rfl in_X2 1 (by decide) q162 (fun _ h9 => h9) rfl dX2_cleanFilter_28 ?_
  refine lv_iload_n F.x F.cd dX2_cleanFilter_31 rfl (lv_at hl 2 rfl) ?_
  refine s_callF (As := [.int (nI q)]) (rest := []) (C := RJ2) (T := TJ2) (N := 3) (n := 1) F hW (k_J2_get g l σ _ _ _ _ q hP (by omega)) (eP) rfl (List.mem_of_getElem? (i := 1) rfl) q693 q328 q330 q72 q332 (by decide +kernel) rfl ⟨⟨Nat.le_of_ble_eq_true rfl, Nat.le_of_ble_eq_true rfl⟩, ⟨(Nat.le_of_ble_eq_true rfl), (Nat.le_of_ble_eq_true rfl)⟩⟩ (Nat.le_of_ble_eq_true rfl) hl.1 rfl dX2_cleanFilter_32 cX_no (fun r4 σ4 H locs hp4 hW => ?_)
  obtain ⟨rfl, hs4⟩ := hp4
  rw [hs4] at hW
  refine W.eq (g2 := F0 m_ 37 ls (.ref (L (100 + q)) :: [])) rfl ?_
  refine s_cast_ F hW (C := RX5) (T := TX5) (N := 7) ((hWk.2.2.2.2.2.1 q (by omega)).1) rfl q694 dX2_cleanFilter_37 ?_
  refine lv_iconst (v := (nI 0)) F.x F.cd dX2_cleanFilter_40 (by decide) ?_
  refine s_putN F hW (ci := 9) (C := RX5) (T := TX5) (N := 7) (v := .int (nI 0)) (ty := .int) ((hWk.2.2.2.2.2.1 q (by omega)).1) ((hWk.2.2.2.2.2.1 q (by omega)).2) rfl in_X5 tyX5_ok nmX5 5 (by decide) q1085 (fun _ h9 => h9) rfl (by decide +kernel) rfl rfl (Nat.le_of_ble_eq_true rfl) dX2_cleanFilter_41 (fun H locs hW => ?_)
  obtain ⟨σ6, hσ6⟩ : ∃ z, z = sset σ (L (100 + q)) (.inr (9, [.int (nI (pA v q)), .int (nI (pB v q)), .int (nI (pM v q)), .int (nI (pV v q)), .int (nI (pR v q)), .int (nI 0), .int (nI (pL v q))])) := ⟨_, rfl⟩
  have hW : Hl g σ6 H locs := by rw [hσ6]; exact hW
  have w6 : σ6 (L (100 + q)) = some (.inr (9, [.int (nI (pA v q)), .int (nI (pB v q)), .int (nI (pM v q)), .int (nI (pV v q)), .int (nI (pR v q)), .int (nI 0), .int (nI (pL v q))])) := by rw [hσ6]; exact sset_eq
  have f7 : σ6 (L 0) = some (.inr (1, [.ref (L 1), .ref (L 2), .int (nI (v 2)), .int (nI (v 3)), .int (nI (v 4)), .int (nI (v 5))])) := by rw [hσ6, sset_ne (sto_ne ((hWk.2.2.2.2.2.1 q (by omega)).1) hWk.1 (by simp))]; exact hWk.1
  have f8 : σ6 (L 1) = some (.inr (2, [.int mcT, .ref (L 3), .int (nI (v 0))])) := by rw [hσ6, sset_ne (sto_ne ((hWk.2.2.2.2.2.1 q (by omega)).1) eT (by simp))]; exact eT
  have j9 := IsList.setO (e := .inr (9, [.int (nI (pA v q)), .int (nI (pB v q)), .int (nI (pM v q)), .int (nI (pV v q)), .int (nI (pR v q)), .int (nI 0), .int (nI (pL v q))])) (hT) ((hWk.2.2.2.2.2.1 q (by omega)).1) (by decide)
  rw [← hσ6] at j9
  have f10 : σ6 (L 2) = some (.inr (2, [.int mcP, .ref (L 4), .int (nI (v 1))])) := by rw [hσ6, sset_ne (sto_ne ((hWk.2.2.2.2.2.1 q (by omega)).1) eP (by simp))]; exact eP
  have j11 := IsList.setO (e := .inr (9, [.int (nI (pA v q)), .int (nI (pB v q)), .int (nI (pM v q)), .int (nI (pV v q)), .int (nI (pR v q)), .int (nI 0), .int (nI (pL v q))])) (hP) ((hWk.2.2.2.2.2.1 q (by omega)).1) (by decide)
  rw [← hσ6] at j11
  refine lv_iload_n F.x F.cd dX2_cleanFilter_44 rfl (lv_at hl 0 rfl) ?_
  subst hQ
  exact s_reti (v := (nI (pD v q))) F hW rfl (⟨_, _, by rw [cleanR, if_pos hd7, cl_nI (by omega)], rfl, Did.of (by rw [hσ6]; exact hWk.setP hq hI.1) (by rw [hσ6]; exact Fr.refl.set (hWk.foP hq)) (by rw [upP_lo (by omega)]) (by rw [upP_lo (by omega)])⟩) ⟨(Nat.le_of_ble_eq_true rfl), (Nat.le_of_ble_eq_true rfl)⟩ dX2_cleanFilter_45
set_option maxHeartbeats 4000000 in
theorem k_X2_advance (g : Gh) (l : Launch) (σ : Sto) (L v : Nat → Nat) (x : Int32) (hWk : IsWorks g σ L v) (hI : Inv v) : Ct g l yX2_advance cX2_advance 4 (some .int) ({ frames := 8, cells := 1, slots := 7, locals := 171 } : Room) [.ref (L 0), .int x] σ (fun r σ' => ∃ z v', waitR v x = .ok (z, v') ∧ r = some (.int z) ∧ Did g σ L v σ' v') (fun q E σ' => ∃ tx, waitR v x = .error tx ∧ thr g σ tx q E σ') := by
  refine Ct.body (by decide) (Nat.le_of_ble_eq_true rfl) ?_
  intro p_ e_ s_ m_ args_ below_ meth_ c_ ls H locs Q F hW hl hQ
  have hl : lv_has ls 4 [(0, .ref (L 0)), (1, .int x)] := hl
  have hT := hWk.2.2.1
  have hP := hWk.2.2.2.1
  obtain ⟨mcT, nT, fT, eT, bT, -⟩ := id hT
  obtain ⟨mcP, nP, fP, eP, bP, -⟩ := id hP
  have hv0 := hI.1
  have hv1 := hI.2.1
  refine lv_iload_n F.x F.cd dX2_advance_0 rfl (lv_at hl 1 rfl) ?_
  refine lv_iconst (v := (nI 1)) F.x F.cd dX2_advance_1 (by decide) ?_
  refine lv_bipush (v := (nI 60)) F.x F.cd dX2_advance_2 (by decide) ?_
  refine s_callSN (As := [.int x, .int (nI 1), .int (nI 60)]) (rest := []) (n := 3) F hW (k_X1_isBetween g l σ x (nI 1) (nI 60)) q1206 q1207 q68 q1208 (by decide +kernel) rfl ⟨⟨Nat.le_of_ble_eq_true rfl, Nat.le_of_ble_eq_true rfl⟩, ⟨(Nat.le_of_ble_eq_true rfl), (Nat.le_of_ble_eq_true rfl)⟩⟩ (Nat.le_of_ble_eq_true rfl) hl.1 rfl dX2_advance_4 cX_no (fun r1 σ1 H locs hp1 hW => ?_)
  obtain ⟨rfl, hs1⟩ := hp1
  rw [hs1] at hW
  refine W.eq (g2 := F0 m_ 7 ls (.int (bI (btw x (nI 1) (nI 60))) :: [])) rfl ?_
  refine s_ldcS F q1209 dX2_advance_7 ?_
  refine s_callSN (As := [.int (bI (btw x (nI 1) (nI 60))), .ref (gS g "FilterWaterworks$Works" 64)]) (rest := []) (n := 2) F hW (k_X1_demand g l σ (btw x (nI 1) (nI 60)) (gS g "FilterWaterworks$Works" 64) "argument" ⟨"FilterWaterworks$Works", 64, q1209, rfl⟩) q1210 q1211 q68 q1212 (by decide +kernel) rfl ⟨⟨Nat.le_of_ble_eq_true rfl, Nat.le_of_ble_eq_true rfl⟩, ⟨(Nat.le_of_ble_eq_true rfl), (Nat.le_of_ble_eq_true rfl)⟩⟩ (Nat.le_of_ble_eq_true rfl) hl.1 rfl dX2_advance_9 (by subst hQ; exact cX_out F ⟨(Nat.le_of_ble_eq_true rfl), (Nat.le_of_ble_eq_true rfl)⟩ (fun q9 E9 σ9 hp9 => ⟨"argument", by rw [waitR, if_neg (by rw [hp9.1]; decide)], hp9.2⟩)) (fun r2 σ2 H locs hp2 hW => ?_)
  obtain ⟨rfl, hs2, hd9⟩ := hp2
  rw [hs2] at hW
  refine W.eq (g2 := F0 m_ 12 ls ([])) rfl ?_
  obtain ⟨n, hn1, hn2, rfl⟩ := (btw_iff (by decide) (by decide)).mp hd9
  refine lv_aload_n F.x F.cd dX2_advance_12 rfl (lv_at hl 0 rfl) ?_
  refine s_get F hW (ci := 1) (C := RX2) (T := TX2) (N := 6) (v := .int (nI (v 5))) (hWk.1) rfl in_X2 5 (by decide) q172 (fun _ h9 => h9) rfl dX2_advance_13 ?_
  refine lv_istore_n (lv' := [(2, .int (nI (v 5))), (0, .ref (L 0)), (1, .int (nI n))]) F.x F.cd dX2_advance_16 rfl hl (by decide) rfl (fun ls hl => ?_)
  refine lv_iconst (v := (nI 0)) F.x F.cd dX2_advance_17 (by decide) ?_
  refine lv_istore_n (lv' := [(3, .int (nI 0)), (2, .int (nI (v 5))), (0, .ref (L 0)), (1, .int (nI n))]) F.x F.cd dX2_advance_18 rfl hl (by decide) rfl (fun ls hl => ?_)
  have loop19 : ∀ (z : Nat) (k : Nat) (σk : Sto), k + z = n → IsWorks g σk L (mins v k) → Fr g σ σk L v → ∀ (H : Heap) (locs : List Loc) (ls : Array Slot), Hl g σk H locs → lv_has ls 4 [(0, .ref (L 0)), (1, .int (nI n)), (2, .int (nI (v 5))), (3, .int (nI k))] → W p_ l e_ ({ frames := 8, cells := 1, slots := 7, locals := 171 } : Room) s_ m_ args_ below_ meth_ c_ H locs 1 7 Q (F0 m_ 19 ls ([])) := by
    intro z
    induction z with
    | zero =>
      intro k σk hkz hWn hFn H locs ls hW hl
      have hIn := inv_mins hI k
      have z0 : mins v k 0 = v 0 := mins_0 (by omega)
      have z1 : mins v k 1 = v 1 := mins_0 (by omega)
      have hT_k := hWn.2.2.1
      have hP_k := hWn.2.2.2.1
      obtain ⟨mcT_k, nT_k, fT_k, eT_k, bT_k, -⟩ := id hT_k
      obtain ⟨mcP_k, nP_k, fP_k, eP_k, bP_k, -⟩ := id hP_k
      have hv0_k := hIn.1
      have hv1_k := hIn.2.1
      refine lv_iload_n F.x F.cd dX2_advance_19 rfl (lv_at hl 3 rfl) ?_
      refine lv_iload_n F.x F.cd dX2_advance_20 rfl (lv_at hl 1 rfl) ?_
      refine n_icmp_ge (a := k) (b := n) (tgt := 34) F (by omega) (by omega) dX2_advance_21 (by decide) (fun c_21 => ?_) (fun c_21 => ?_)
      · refine lv_aload_n F.x F.cd dX2_advance_34 rfl (lv_at hl 0 rfl) ?_
        refine s_get F hW (ci := 1) (C := RX2) (T := TX2) (N := 6) (v := .int (nI ((mins v k) 5))) (hWn.1) rfl in_X2 5 (by decide) q172 (fun _ h9 => h9) rfl dX2_advance_35 ?_
        refine lv_iload_n F.x F.cd dX2_advance_38 rfl (lv_at hl 2 rfl) ?_
        refine a_isub (v := (nI (mins v k 5) - nI (v 5))) F (rfl) dX2_advance_39 ?_
        subst hQ
        exact s_reti (v := (nI (mins v k 5) - nI (v 5))) F hW rfl (⟨_, _, by rw [waitR, if_pos hd9, cl_nI (by omega), ← show k = n by omega], rfl, Did.of hWn hFn z0 z1⟩) ⟨(Nat.le_of_ble_eq_true rfl), (Nat.le_of_ble_eq_true rfl)⟩ dX2_advance_40
      · exact absurd c_21 (by omega)
    | succ z ih19 =>
      intro k σk hkz hWn hFn H locs ls hW hl
      have hIn := inv_mins hI k
      have z0 : mins v k 0 = v 0 := mins_0 (by omega)
      have z1 : mins v k 1 = v 1 := mins_0 (by omega)
      have hT_k := hWn.2.2.1
      have hP_k := hWn.2.2.2.1
      obtain ⟨mcT_k, nT_k, fT_k, eT_k, bT_k, -⟩ := id hT_k
      obtain ⟨mcP_k, nP_k, fP_k, eP_k, bP_k, -⟩ := id hP_k
      have hv0_k := hIn.1
      have hv1_k := hIn.2.1
      refine lv_iload_n F.x F.cd dX2_advance_19 rfl (lv_at hl 3 rfl) ?_
      refine lv_iload_n F.x F.cd dX2_advance_20 rfl (lv_at hl 1 rfl) ?_
      refine n_icmp_ge (a := k) (b := n) (tgt := 34) F (by omega) (by omega) dX2_advance_21 (by decide) (fun c_21 => ?_) (fun c_21 => ?_)
      · exact absurd c_21 (by omega)
      · refine lv_aload_n F.x F.cd dX2_advance_24 rfl (lv_at hl 0 rfl) ?_
        refine s_callV (As := []) (rest := []) (C := RX2) (T := TX2) (N := 6) (n := 0) F hW (k_X2_passMinute g l σk L (mins v k) hWn hIn) (hWn.1) rfl q1294 q1296 qs12 q69 q1297 rfl (by decide +kernel) rfl ⟨⟨Nat.le_of_ble_eq_true rfl, Nat.le_of_ble_eq_true rfl⟩, ⟨(Nat.le_of_ble_eq_true rfl), (Nat.le_of_ble_eq_true rfl)⟩⟩ (Nat.le_of_ble_eq_true rfl) hl.1 rfl dX2_advance_25 cX_no (fun r3 σ3 H locs hp3 hW => ?_)
        obtain ⟨rfl, hWp, hFp⟩ := hp3
        refine W.eq (g2 := F0 m_ 28 ls ([])) rfl ?_
        refine lv_iinc (k := 3) (v := (nI (k + 1))) (lv' := [(3, .int (nI (k + 1))), (0, .ref (L 0)), (1, .int (nI n)), (2, .int (nI (v 5)))]) F.x F.cd dX2_advance_28 hl rfl (inc_nI k 1) (by decide) rfl (fun ls hl => ?_)
        refine lv_goto (tgt := 19) F.x F.cd dX2_advance_31 (by decide) ?_
        exact ih19 (k + 1) σ3 (by omega) (hWp) (hFn.trans hFp z0 z1) H locs ls hW (lv_sub hl [1, 2, 3, 0] rfl)
  exact loop19 (n) 0 _ (by omega) (hWk) (Fr.refl) H locs ls hW (lv_sub hl [2, 3, 1, 0] rfl)
