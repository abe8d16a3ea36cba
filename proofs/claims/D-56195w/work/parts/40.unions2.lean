/-! ===== Works: groups by unions ===== -/
set_option maxRecDepth 100000
set_option maxHeartbeats 4000000 in
theorem k_X2_rootOf_0 (g : Gh) (l : Launch) (σ : Sto) (pa n c : Nat) (P Rt dp : Nat → Nat) (j : Nat) (ep : σ pa = some (eI g 0 n (fun x9 => nI (P x9)))) (hU : UF P Rt dp n c) (hj : j < n) (hd : dp j ≤ 0) (hn : n ≤ 8) : Ct g l yX2_rootOf cX2_rootOf 2 (some .int) ({ frames := 0, cells := 0, slots := 0, locals := 0 } : Room) [.ref pa, .int (nI j)] σ (fun r σ' => r = some (.int (nI (Rt j))) ∧ σ' = σ) (nox) := by
  refine Ct.body (by decide) (Nat.le_of_ble_eq_true rfl) ?_
  intro p_ e_ s_ m_ args_ below_ meth_ c_ ls H locs Q F hW hl hQ
  have hl : lv_has ls 2 [(0, .ref pa), (1, .int (nI j))] := hl
  obtain ⟨h1, h2, h3, h4, h5, h6, h7⟩ := hU j hj
  refine lv_aload_n F.x F.cd dX2_rootOf_0 rfl (lv_at hl 0 rfl) ?_
  refine lv_iload_n F.x F.cd dX2_rootOf_1 rfl (lv_at hl 1 rfl) ?_
  refine n_iald (i := j) (n := n) (f := (fun x9 => nI (P x9))) (x := (nI (P j))) F hW (ep) (by omega) (by omega) (rfl) dX2_rootOf_2 ?_
  refine lv_iload_n F.x F.cd dX2_rootOf_3 rfl (lv_at hl 1 rfl) ?_
  refine n_icmp_ne (a := P j) (b := j) (tgt := 11) F (by omega) (by omega) dX2_rootOf_4 (by decide) (fun c_4 => ?_) (fun c_4 => ?_)
  · refine lv_aload_n F.x F.cd dX2_rootOf_11 rfl (lv_at hl 0 rfl) ?_
    refine lv_aload_n F.x F.cd dX2_rootOf_12 rfl (lv_at hl 0 rfl) ?_
    refine lv_iload_n F.x F.cd dX2_rootOf_13 rfl (lv_at hl 1 rfl) ?_
    refine n_iald (i := j) (n := n) (f := (fun x9 => nI (P x9))) (x := (nI (P j))) F hW (ep) (by omega) (by omega) (rfl) dX2_rootOf_14 ?_
    exact absurd (h6 (fun e => c_4 e)) (by omega)
  · refine lv_iload_n F.x F.cd dX2_rootOf_7 rfl (lv_at hl 1 rfl) ?_
    refine lv_goto (tgt := 18) F.x F.cd dX2_rootOf_8 (by decide) ?_
    subst hQ
    exact s_reti (v := (nI j)) F hW rfl (⟨by rw [(h5 c_4).1], rfl⟩) ⟨(Nat.le_of_ble_eq_true rfl), (Nat.le_of_ble_eq_true rfl)⟩ dX2_rootOf_18
set_option maxHeartbeats 4000000 in
theorem k_X2_rootOf_1 (g : Gh) (l : Launch) (σ : Sto) (pa n c : Nat) (P Rt dp : Nat → Nat) (j : Nat) (ep : σ pa = some (eI g 0 n (fun x9 => nI (P x9)))) (hU : UF P Rt dp n c) (hj : j < n) (hd : dp j ≤ 1) (hn : n ≤ 8) : Ct g l yX2_rootOf cX2_rootOf 2 (some .int) ({ frames := 1, cells := 0, slots := 0, locals := 21 } : Room) [.ref pa, .int (nI j)] σ (fun r σ' => r = some (.int (nI (Rt j))) ∧ σ' = σ) (nox) := by
  refine Ct.body (by decide) (Nat.le_of_ble_eq_true rfl) ?_
  intro p_ e_ s_ m_ args_ below_ meth_ c_ ls H locs Q F hW hl hQ
  have hl : lv_has ls 2 [(0, .ref pa), (1, .int (nI j))] := hl
  obtain ⟨h1, h2, h3, h4, h5, h6, h7⟩ := hU j hj
  refine lv_aload_n F.x F.cd dX2_rootOf_0 rfl (lv_at hl 0 rfl) ?_
  refine lv_iload_n F.x F.cd dX2_rootOf_1 rfl (lv_at hl 1 rfl) ?_
  refine n_iald (i := j) (n := n) (f := (fun x9 => nI (P x9))) (x := (nI (P j))) F hW (ep) (by omega) (by omega) (rfl) dX2_rootOf_2 ?_
  refine lv_iload_n F.x F.cd dX2_rootOf_3 rfl (lv_at hl 1 rfl) ?_
  refine n_icmp_ne (a := P j) (b := j) (tgt := 11) F (by omega) (by omega) dX2_rootOf_4 (by decide) (fun c_4 => ?_) (fun c_4 => ?_)
  · refine lv_aload_n F.x F.cd dX2_rootOf_11 rfl (lv_at hl 0 rfl) ?_
    refine lv_aload_n F.x F.cd dX2_rootOf_12 rfl (lv_at hl 0 rfl) ?_
    refine lv_iload_n F.x F.cd dX2_rootOf_13 rfl (lv_at hl 1 rfl) ?_
    refine n_iald (i := j) (n := n) (f := (fun x9 => nI (P x9))) (x := (nI (P j))) F hW (ep) (by omega) (by omega) (rfl) dX2_rootOf_14 ?_
    refine s_callS (As := [.ref pa, .int (nI (P j))]) (rest := []) (n := 2) F hW (k_X2_rootOf_0 g l σ pa n c P Rt dp (P j) ep hU h1 (by have := h6 (fun e => c_4 e); omega) hn) q695 q696 q69 q697 (by decide +kernel) rfl ⟨⟨Nat.le_of_ble_eq_true rfl, Nat.le_of_ble_eq_true rfl⟩, ⟨(Nat.le_of_ble_eq_true rfl), (Nat.le_of_ble_eq_true rfl)⟩⟩ (Nat.le_of_ble_eq_true rfl) hl.1 rfl dX2_rootOf_15 cX_no (fun r1 σ1 H locs hp1 hW => ?_)
    obtain ⟨rfl, hs1⟩ := hp1
    rw [hs1] at hW
    refine W.eq (g2 := F0 m_ 18 ls (.int (nI (Rt j)) :: [])) (by rw [h4]; rfl) ?_
    subst hQ
    exact s_reti (v := (nI (Rt j))) F hW rfl (⟨rfl, rfl⟩) ⟨(Nat.le_of_ble_eq_true rfl), (Nat.le_of_ble_eq_true rfl)⟩ dX2_rootOf_18
  · refine lv_iload_n F.x F.cd dX2_rootOf_7 rfl (lv_at hl 1 rfl) ?_
    refine lv_goto (tgt := 18) F.x F.cd dX2_rootOf_8 (by decide) ?_
    subst hQ
    exact s_reti (v := (nI j)) F hW rfl (⟨by rw [(h5 c_4).1], rfl⟩) ⟨(Nat.le_of_ble_eq_true rfl), (Nat.le_of_ble_eq_true rfl)⟩ dX2_rootOf_18
set_option maxHeartbeats 4000000 in
theorem k_X2_rootOf_2 (g : Gh) (l : Launch) (σ : Sto) (pa n c : Nat) (P Rt dp : Nat → Nat) (j : Nat) (ep : σ pa = some (eI g 0 n (fun x9 => nI (P x9)))) (hU : UF P Rt dp n c) (hj : j < n) (hd : dp j ≤ 2) (hn : n ≤ 8) : Ct g l yX2_rootOf cX2_rootOf 2 (some .int) ({ frames := 2, cells := 0, slots := 0, locals := 42 } : Room) [.ref pa, .int (nI j)] σ (fun r σ' => r = some (.int (nI (Rt j))) ∧ σ' = σ) (nox) := by
  refine Ct.body (by decide) (Nat.le_of_ble_eq_true rfl) ?_
  intro p_ e_ s_ m_ args_ below_ meth_ c_ ls H locs Q F hW hl hQ
  have hl : lv_has ls 2 [(0, .ref pa), (1, .int (nI j))] := hl
  obtain ⟨h1, h2, h3, h4, h5, h6, h7⟩ := hU j hj
  refine lv_aload_n F.x F.cd dX2_rootOf_0 rfl (lv_at hl 0 rfl) ?_
  refine lv_iload_n F.x F.cd dX2_rootOf_1 rfl (lv_at hl 1 rfl) ?_
  refine n_iald (i := j) (n := n) (f := (fun x9 => nI (P x9))) (x := (nI (P j))) F hW (ep) (by omega) (by omega) (rfl) dX2_rootOf_2 ?_
  refine lv_iload_n F.x F.cd dX2_rootOf_3 rfl (lv_at hl 1 rfl) ?_
  refine n_icmp_ne (a := P j) (b := j) (tgt := 11) F (by omega) (by omega) dX2_rootOf_4 (by decide) (fun c_4 => ?_) (fun c_4 => ?_)
  · refine lv_aload_n F.x F.cd dX2_rootOf_11 rfl (lv_at hl 0 rfl) ?_
    refine lv_aload_n F.x F.cd dX2_rootOf_12 rfl (lv_at hl 0 rfl) ?_
    refine lv_iload_n F.x F.cd dX2_rootOf_13 rfl (lv_at hl 1 rfl) ?_
    refine n_iald (i := j) (n := n) (f := (fun x9 => nI (P x9))) (x := (nI (P j))) F hW (ep) (by omega) (by omega) (rfl) dX2_rootOf_14 ?_
    refine s_callS (As := [.ref pa, .int (nI (P j))]) (rest := []) (n := 2) F hW (k_X2_rootOf_1 g l σ pa n c P Rt dp (P j) ep hU h1 (by have := h6 (fun e => c_4 e); omega) hn) q695 q696 q69 q697 (by decide +kernel) rfl ⟨⟨Nat.le_of_ble_eq_true rfl, Nat.le_of_ble_eq_true rfl⟩, ⟨(Nat.le_of_ble_eq_true rfl), (Nat.le_of_ble_eq_true rfl)⟩⟩ (Nat.le_of_ble_eq_true rfl) hl.1 rfl dX2_rootOf_15 cX_no (fun r1 σ1 H locs hp1 hW => ?_)
    obtain ⟨rfl, hs1⟩ := hp1
    rw [hs1] at hW
    refine W.eq (g2 := F0 m_ 18 ls (.int (nI (Rt j)) :: [])) (by rw [h4]; rfl) ?_
    subst hQ
    exact s_reti (v := (nI (Rt j))) F hW rfl (⟨rfl, rfl⟩) ⟨(Nat.le_of_ble_eq_true rfl), (Nat.le_of_ble_eq_true rfl)⟩ dX2_rootOf_18
  · refine lv_iload_n F.x F.cd dX2_rootOf_7 rfl (lv_at hl 1 rfl) ?_
    refine lv_goto (tgt := 18) F.x F.cd dX2_rootOf_8 (by decide) ?_
    subst hQ
    exact s_reti (v := (nI j)) F hW rfl (⟨by rw [(h5 c_4).1], rfl⟩) ⟨(Nat.le_of_ble_eq_true rfl), (Nat.le_of_ble_eq_true rfl)⟩ dX2_rootOf_18
set_option maxHeartbeats 4000000 in
theorem k_X2_rootOf_3 (g : Gh) (l : Launch) (σ : Sto) (pa n c : Nat) (P Rt dp : Nat → Nat) (j : Nat) (ep : σ pa = some (eI g 0 n (fun x9 => nI (P x9)))) (hU : UF P Rt dp n c) (hj : j < n) (hd : dp j ≤ 3) (hn : n ≤ 8) : Ct g l yX2_rootOf cX2_rootOf 2 (some .int) ({ frames := 3, cells := 0, slots := 0, locals := 63 } : Room) [.ref pa, .int (nI j)] σ (fun r σ' => r = some (.int (nI (Rt j))) ∧ σ' = σ) (nox) := by
  refine Ct.body (by decide) (Nat.le_of_ble_eq_true rfl) ?_
  intro p_ e_ s_ m_ args_ below_ meth_ c_ ls H locs Q F hW hl hQ
  have hl : lv_has ls 2 [(0, .ref pa), (1, .int (nI j))] := hl
  obtain ⟨h1, h2, h3, h4, h5, h6, h7⟩ := hU j hj
  refine lv_aload_n F.x F.cd dX2_rootOf_0 rfl (lv_at hl 0 rfl) ?_
  refine lv_iload_n F.x F.cd dX2_rootOf_1 rfl (lv_at hl 1 rfl) ?_
  refine n_iald (i := j) (n := n) (f := (fun x9 => nI (P x9))) (x := (nI (P j))) F hW (ep) (by omega) (by omega) (rfl) dX2_rootOf_2 ?_
  refine lv_iload_n F.x F.cd dX2_rootOf_3 rfl (lv_at hl 1 rfl) ?_
  refine n_icmp_ne (a := P j) (b := j) (tgt := 11) F (by omega) (by omega) dX2_rootOf_4 (by decide) (fun c_4 => ?_) (fun c_4 => ?_)
  · refine lv_aload_n F.x F.cd dX2_rootOf_11 rfl (lv_at hl 0 rfl) ?_
    refine lv_aload_n F.x F.cd dX2_rootOf_12 rfl (lv_at hl 0 rfl) ?_
    refine lv_iload_n F.x F.cd dX2_rootOf_13 rfl (lv_at hl 1 rfl) ?_
    refine n_iald (i := j) (n := n) (f := (fun x9 => nI (P x9))) (x := (nI (P j))) F hW (ep) (by omega) (by omega) (rfl) dX2_rootOf_14 ?_
    refine s_callS (As := [.ref pa, .int (nI (P j))]) (rest := []) (n := 2) F hW (k_X2_rootOf_2 g l σ pa n c P Rt dp (P j) ep hU h1 (by have := h6 (fun e => c_4 e); omega) hn) q695 q696 q69 q697 (by decide +kernel) rfl ⟨⟨Nat.le_of_ble_eq_true rfl, Nat.le_of_ble_eq_true rfl⟩, ⟨(Nat.le_of_ble_eq_true rfl), (Nat.le_of_ble_eq_true rfl)⟩⟩ (Nat.le_of_ble_eq_true rfl) hl.1 rfl dX2_rootOf_15 cX_no (fun r1 σ1 H locs hp1 hW => ?_)
    obtain ⟨rfl, hs1⟩ := hp1
    rw [hs1] at hW
    refine W.eq (g2 := F0 m_ 18 ls (.int (nI (Rt j)) :: [])) (by rw [h4]; rfl) ?_
    subst hQ
    exact s_reti (v := (nI (Rt j))) F hW rfl (⟨rfl, rfl⟩) ⟨(Nat.le_of_ble_eq_true rfl), (Nat.le_of_ble_eq_true rfl)⟩ dX2_rootOf_18
  · refine lv_iload_n F.x F.cd dX2_rootOf_7 rfl (lv_at hl 1 rfl) ?_
    refine lv_goto (tgt := 18) F.x F.cd dX2_rootOf_8 (by decide) ?_
    subst hQ
    exact s_reti (v := (nI j)) F hW rfl (⟨by rw [(h5 c_4).1], rfl⟩) ⟨(Nat.le_of_ble_eq_true rfl), (Nat.le_of_ble_eq_true rfl)⟩ dX2_rootOf_18
set_option maxHeartbeats 4000000 in
theorem k_X2_rootOf_4 (g : Gh) (l : Launch) (σ : Sto) (pa n c : Nat) (P Rt dp : Nat → Nat) (j : Nat) (ep : σ pa = some (eI g 0 n (fun x9 => nI (P x9)))) (hU : UF P Rt dp n c) (hj : j < n) (hd : dp j ≤ 4) (hn : n ≤ 8) : Ct g l yX2_rootOf cX2_rootOf 2 (some .int) ({ frames := 4, cells := 0, slots := 0, locals := 84 } : Room) [.ref pa, .int (nI j)] σ (fun r σ' => r = some (.int (nI (Rt j))) ∧ σ' = σ) (nox) := by
  refine Ct.body (by decide) (Nat.le_of_ble_eq_true rfl) ?_
  intro p_ e_ s_ m_ args_ below_ meth_ c_ ls H locs Q F hW hl hQ
  have hl : lv_has ls 2 [(0, .ref pa), (1, .int (nI j))] := hl
  obtain ⟨h1, h2, h3, h4, h5, h6, h7⟩ := hU j hj
  refine lv_aload_n F.x F.cd dX2_rootOf_0 rfl (lv_at hl 0 rfl) ?_
  refine lv_iload_n F.x F.cd dX2_rootOf_1 rfl (lv_at hl 1 rfl) ?_
  refine n_iald (i := j) (n := n) (f := (fun x9 => nI (P x9))) (x := (nI (P j))) F hW (ep) (by omega) (by omega) (rfl) dX2_rootOf_2 ?_
  refine lv_iload_n F.x F.cd dX2_rootOf_3 rfl (lv_at hl 1 rfl) ?_
  refine n_icmp_ne (a := P j) (b := j) (tgt := 11) F (by omega) (by omega) dX2_rootOf_4 (by decide) (fun c_4 => ?_) (fun c_4 => ?_)
  · refine lv_aload_n F.x F.cd dX2_rootOf_11 rfl (lv_at hl 0 rfl) ?_
    refine lv_aload_n F.x F.cd dX2_rootOf_12 rfl (lv_at hl 0 rfl) ?_
    refine lv_iload_n F.x F.cd dX2_rootOf_13 rfl (lv_at hl 1 rfl) ?_
    refine n_iald (i := j) (n := n) (f := (fun x9 => nI (P x9))) (x := (nI (P j))) F hW (ep) (by omega) (by omega) (rfl) dX2_rootOf_14 ?_
    refine s_callS (As := [.ref pa, .int (nI (P j))]) (rest := []) (n := 2) F hW (k_X2_rootOf_3 g l σ pa n c P Rt dp (P j) ep hU h1 (by have := h6 (fun e => c_4 e); omega) hn) q695 q696 q69 q697 (by decide +kernel) rfl ⟨⟨Nat.le_of_ble_eq_true rfl, Nat.le_of_ble_eq_true rfl⟩, ⟨(Nat.le_of_ble_eq_true rfl), (Nat.le_of_ble_eq_true rfl)⟩⟩ (Nat.le_of_ble_eq_true rfl) hl.1 rfl dX2_rootOf_15 cX_no (fun r1 σ1 H locs hp1 hW => ?_)
    obtain ⟨rfl, hs1⟩ := hp1
    rw [hs1] at hW
    refine W.eq (g2 := F0 m_ 18 ls (.int (nI (Rt j)) :: [])) (by rw [h4]; rfl) ?_
    subst hQ
    exact s_reti (v := (nI (Rt j))) F hW rfl (⟨rfl, rfl⟩) ⟨(Nat.le_of_ble_eq_true rfl), (Nat.le_of_ble_eq_true rfl)⟩ dX2_rootOf_18
  · refine lv_iload_n F.x F.cd dX2_rootOf_7 rfl (lv_at hl 1 rfl) ?_
    refine lv_goto (tgt := 18) F.x F.cd dX2_rootOf_8 (by decide) ?_
    subst hQ
    exact s_reti (v := (nI j)) F hW rfl (⟨by rw [(h5 c_4).1], rfl⟩) ⟨(Nat.le_of_ble_eq_true rfl), (Nat.le_of_ble_eq_true rfl)⟩ dX2_rootOf_18
set_option maxHeartbeats 4000000 in
theorem k_X2_rootOf_5 (g : Gh) (l : Launch) (σ : Sto) (pa n c : Nat) (P Rt dp : Nat → Nat) (j : Nat) (ep : σ pa = some (eI g 0 n (fun x9 => nI (P x9)))) (hU : UF P Rt dp n c) (hj : j < n) (hd : dp j ≤ 5) (hn : n ≤ 8) : Ct g l yX2_rootOf cX2_rootOf 2 (some .int) ({ frames := 5, cells := 0, slots := 0, locals := 105 } : Room) [.ref pa, .int (nI j)] σ (fun r σ' => r = some (.int (nI (Rt j))) ∧ σ' = σ) (nox) := by
  refine Ct.body (by decide) (Nat.le_of_ble_eq_true rfl) ?_
  intro p_ e_ s_ m_ args_ below_ meth_ c_ ls H locs Q F hW hl hQ
  have hl : lv_has ls 2 [(0, .ref pa), (1, .int (nI j))] := hl
  obtain ⟨h1, h2, h3, h4, h5, h6, h7⟩ := hU j hj
  refine lv_aload_n F.x F.cd dX2_rootOf_0 rfl (lv_at hl 0 rfl) ?_
  refine lv_iload_n F.x F.cd dX2_rootOf_1 rfl (lv_at hl 1 rfl) ?_
  refine n_iald (i := j) (n := n) (f := (fun x9 => nI (P x9))) (x := (nI (P j))) F hW (ep) (by omega) (by omega) (rfl) dX2_rootOf_2 ?_
  refine lv_iload_n F.x F.cd dX2_rootOf_3 rfl (lv_at hl 1 rfl) ?_
  refine n_icmp_ne (a := P j) (b := j) (tgt := 11) F (by omega) (by omega) dX2_rootOf_4 (by decide) (fun c_4 => ?_) (fun c_4 => ?_)
  · refine lv_aload_n F.x F.cd dX2_rootOf_11 rfl (lv_at hl 0 rfl) ?_
    refine lv_aload_n F.x F.cd dX2_rootOf_12 rfl (lv_at hl 0 rfl) ?_
    refine lv_iload_n F.x F.cd dX2_rootOf_13 rfl (lv_at hl 1 rfl) ?_
    refine n_iald (i := j) (n := n) (f := (fun x9 => nI (P x9))) (x := (nI (P j))) F hW (ep) (by omega) (by omega) (rfl) dX2_rootOf_14 ?_
    refine s_callS (As := [.ref pa, .int (nI (P j))]) (rest := []) (n := 2) F hW (k_X2_rootOf_4 g l σ pa n c P Rt dp (P j) ep hU h1 (by have := h6 (fun e => c_4 e); omega) hn) q695 q696 q69 q697 (by decide +kernel) rfl ⟨⟨Nat.le_of_ble_eq_true rfl, Nat.le_of_ble_eq_true rfl⟩, ⟨(Nat.le_of_ble_eq_true rfl), (Nat.le_of_ble_eq_true rfl)⟩⟩ (Nat.le_of_ble_eq_true rfl) hl.1 rfl dX2_rootOf_15 cX_no (fun r1 σ1 H locs hp1 hW => ?_)
    obtain ⟨rfl, hs1⟩ := hp1
    rw [hs1] at hW
    refine W.eq (g2 := F0 m_ 18 ls (.int (nI (Rt j)) :: [])) (by rw [h4]; rfl) ?_
    subst hQ
    exact s_reti (v := (nI (Rt j))) F hW rfl (⟨rfl, rfl⟩) ⟨(Nat.le_of_ble_eq_true rfl), (Nat.le_of_ble_eq_true rfl)⟩ dX2_rootOf_18
  · refine lv_iload_n F.x F.cd dX2_rootOf_7 rfl (lv_at hl 1 rfl) ?_
    refine lv_goto (tgt := 18) F.x F.cd dX2_rootOf_8 (by decide) ?_
    subst hQ
    exact s_reti (v := (nI j)) F hW rfl (⟨by rw [(h5 c_4).1], rfl⟩) ⟨(Nat.le_of_ble_eq_true rfl), (Nat.le_of_ble_eq_true rfl)⟩ dX2_rootOf_18
set_option maxHeartbeats 4000000 in
theorem k_X2_rootOf_6 (g : Gh) (l : Launch) (σ : Sto) (pa n c : Nat) (P Rt dp : Nat → Nat) (j : Nat) (ep : σ pa = some (eI g 0 n (fun x9 => nI (P x9)))) (hU : UF P Rt dp n c) (hj : j < n) (hd : dp j ≤ 6) (hn : n ≤ 8) : Ct g l yX2_rootOf cX2_rootOf 2 (some .int) ({ frames := 6, cells := 0, slots := 0, locals := 126 } : Room) [.ref pa, .int (nI j)] σ (fun r σ' => r = some (.int (nI (Rt j))) ∧ σ' = σ) (nox) := by
  refine Ct.body (by decide) (Nat.le_of_ble_eq_true rfl) ?_
  intro p_ e_ s_ m_ args_ below_ meth_ c_ ls H locs Q F hW hl hQ
  have hl : lv_has ls 2 [(0, .ref pa), (1, .int (nI j))] := hl
  obtain ⟨h1, h2, h3, h4, h5, h6, h7⟩ := hU j hj
  refine lv_aload_n F.x F.cd dX2_rootOf_0 rfl (lv_at hl 0 rfl) ?_
  refine lv_iload_n F.x F.cd dX2_rootOf_1 rfl (lv_at hl 1 rfl) ?_
  refine n_iald (i := j) (n := n) (f := (fun x9 => nI (P x9))) (x := (nI (P j))) F hW (ep) (by omega) (by omega) (rfl) dX2_rootOf_2 ?_
  refine lv_iload_n F.x F.cd dX2_rootOf_3 rfl (lv_at hl 1 rfl) ?_
  refine n_icmp_ne (a := P j) (b := j) (tgt := 11) F (by omega) (by omega) dX2_rootOf_4 (by decide) (fun c_4 => ?_) (fun c_4 => ?_)
  · refine lv_aload_n F.x F.cd dX2_rootOf_11 rfl (lv_at hl 0 rfl) ?_
    refine lv_aload_n F.x F.cd dX2_rootOf_12 rfl (lv_at hl 0 rfl) ?_
    refine lv_iload_n F.x F.cd dX2_rootOf_13 rfl (lv_at hl 1 rfl) ?_
    refine n_iald (i := j) (n := n) (f := (fun x9 => nI (P x9))) (x := (nI (P j))) F hW (ep) (by omega) (by omega) (rfl) dX2_rootOf_14 ?_
    refine s_callS (As := [.ref pa, .int (nI (P j))]) (rest := []) (n := 2) F hW (k_X2_rootOf_5 g l σ pa n c P Rt dp (P j) ep hU h1 (by have := h6 (fun e => c_4 e); omega) hn) q695 q696 q69 q697 (by decide +kernel) rfl ⟨⟨Nat.le_of_ble_eq_true rfl, Nat.le_of_ble_eq_true rfl⟩, ⟨(Nat.le_of_ble_eq_true rfl), (Nat.le_of_ble_eq_true rfl)⟩⟩ (Nat.le_of_ble_eq_true rfl) hl.1 rfl dX2_rootOf_15 cX_no (fun r1 σ1 H locs hp1 hW => ?_)
    obtain ⟨rfl, hs1⟩ := hp1
    rw [hs1] at hW
    refine W.eq (g2 := F0 m_ 18 ls (.int (nI (Rt j)) :: [])) (by rw [h4]; rfl) ?_
    subst hQ
    exact s_reti (v := (nI (Rt j))) F hW rfl (⟨rfl, rfl⟩) ⟨(Nat.le_of_ble_eq_true rfl), (Nat.le_of_ble_eq_true rfl)⟩ dX2_rootOf_18
  · refine lv_iload_n F.x F.cd dX2_rootOf_7 rfl (lv_at hl 1 rfl) ?_
    refine lv_goto (tgt := 18) F.x F.cd dX2_rootOf_8 (by decide) ?_
    subst hQ
    exact s_reti (v := (nI j)) F hW rfl (⟨by rw [(h5 c_4).1], rfl⟩) ⟨(Nat.le_of_ble_eq_true rfl), (Nat.le_of_ble_eq_true rfl)⟩ dX2_rootOf_18
set_option maxHeartbeats 4000000 in
theorem k_X2_rootOf_7 (g : Gh) (l : Launch) (σ : Sto) (pa n c : Nat) (P Rt dp : Nat → Nat) (j : Nat) (ep : σ pa = some (eI g 0 n (fun x9 => nI (P x9)))) (hU : UF P Rt dp n c) (hj : j < n) (hd : dp j ≤ 7) (hn : n ≤ 8) : Ct g l yX2_rootOf cX2_rootOf 2 (some .int) ({ frames := 7, cells := 0, slots := 0, locals := 147 } : Room) [.ref pa, .int (nI j)] σ (fun r σ' => r = some (.int (nI (Rt j))) ∧ σ' = σ) (nox) := by
  refine Ct.body (by decide) (Nat.le_of_ble_eq_true rfl) ?_
  intro p_ e_ s_ m_ args_ below_ meth_ c_ ls H locs Q F hW hl hQ
  have hl : lv_has ls 2 [(0, .ref pa), (1, .int (nI j))] := hl
  obtain ⟨h1, h2, h3, h4, h5, h6, h7⟩ := hU j hj
  refine lv_aload_n F.x F.cd dX2_rootOf_0 rfl (lv_at hl 0 rfl) ?_
  refine lv_iload_n F.x F.cd dX2_rootOf_1 rfl (lv_at hl 1 rfl) ?_
  refine n_iald (i := j) (n := n) (f := (fun x9 => nI (P x9))) (x := (nI (P j))) F hW (ep) (by omega) (by omega) (rfl) dX2_rootOf_2 ?_
  refine lv_iload_n F.x F.cd dX2_rootOf_3 rfl (lv_at hl 1 rfl) ?_
  refine n_icmp_ne (a := P j) (b := j) (tgt := 11) F (by omega) (by omega) dX2_rootOf_4 (by decide) (fun c_4 => ?_) (fun c_4 => ?_)
  · refine lv_aload_n F.x F.cd dX2_rootOf_11 rfl (lv_at hl 0 rfl) ?_
    refine lv_aload_n F.x F.cd dX2_rootOf_12 rfl (lv_at hl 0 rfl) ?_
    refine lv_iload_n F.x F.cd dX2_rootOf_13 rfl (lv_at hl 1 rfl) ?_
    refine n_iald (i := j) (n := n) (f := (fun x9 => nI (P x9))) (x := (nI (P j))) F hW (ep) (by omega) (by omega) (rfl) dX2_rootOf_14 ?_
    refine s_callS (As := [.ref pa, .int (nI (P j))]) (rest := []) (n := 2) F hW (k_X2_rootOf_6 g l σ pa n c P Rt dp (P j) ep hU h1 (by have := h6 (fun e => c_4 e); omega) hn) q695 q696 q69 q697 (by decide +kernel) rfl ⟨⟨Nat.le_of_ble_eq_true rfl, Nat.le_of_ble_eq_true rfl⟩, ⟨(Nat.le_of_ble_eq_true rfl), (Nat.le_of_ble_eq_true rfl)⟩⟩ (Nat.le_of_ble_eq_true rfl) hl.1 rfl dX2_rootOf_15 cX_no (fun r1 σ1 H locs hp1 hW => ?_)
    obtain ⟨rfl, hs1⟩ := hp1
    rw [hs1] at hW
    refine W.eq (g2 := F0 m_ 18 ls (.int (nI (Rt j)) :: [])) (by rw [h4]; rfl) ?_
    subst hQ
    exact s_reti (v := (nI (Rt j))) F hW rfl (⟨rfl, rfl⟩) ⟨(Nat.le_of_ble_eq_true rfl), (Nat.le_of_ble_eq_true rfl)⟩ dX2_rootOf_18
  · refine lv_iload_n F.x F.cd dX2_rootOf_7 rfl (lv_at hl 1 rfl) ?_
    refine lv_goto (tgt := 18) F.x F.cd dX2_rootOf_8 (by decide) ?_
    subst hQ
    exact s_reti (v := (nI j)) F hW rfl (⟨by rw [(h5 c_4).1], rfl⟩) ⟨(Nat.le_of_ble_eq_true rfl), (Nat.le_of_ble_eq_true rfl)⟩ dX2_rootOf_18
set_option maxHeartbeats 4000000 in
theorem k_X2_rootOf_8 (g : Gh) (l : Launch) (σ : Sto) (pa n c : Nat) (P Rt dp : Nat → Nat) (j : Nat) (ep : σ pa = some (eI g 0 n (fun x9 => nI (P x9)))) (hU : UF P Rt dp n c) (hj : j < n) (hd : dp j ≤ 8) (hn : n ≤ 8) : Ct g l yX2_rootOf cX2_rootOf 2 (some .int) ({ frames := 8, cells := 0, slots := 0, locals := 168 } : Room) [.ref pa, .int (nI j)] σ (fun r σ' => r = some (.int (nI (Rt j))) ∧ σ' = σ) (nox) := by
  refine Ct.body (by decide) (Nat.le_of_ble_eq_true rfl) ?_
  intro p_ e_ s_ m_ args_ below_ meth_ c_ ls H locs Q F hW hl hQ
  have hl : lv_has ls 2 [(0, .ref pa), (1, .int (nI j))] := hl
  obtain ⟨h1, h2, h3, h4, h5, h6, h7⟩ := hU j hj
  refine lv_aload_n F.x F.cd dX2_rootOf_0 rfl (lv_at hl 0 rfl) ?_
  refine lv_iload_n F.x F.cd dX2_rootOf_1 rfl (lv_at hl 1 rfl) ?_
  refine n_iald (i := j) (n := n) (f := (fun x9 => nI (P x9))) (x := (nI (P j))) F hW (ep) (by omega) (by omega) (rfl) dX2_rootOf_2 ?_
  refine lv_iload_n F.x F.cd dX2_rootOf_3 rfl (lv_at hl 1 rfl) ?_
  refine n_icmp_ne (a := P j) (b := j) (tgt := 11) F (by omega) (by omega) dX2_rootOf_4 (by decide) (fun c_4 => ?_) (fun c_4 => ?_)
  · refine lv_aload_n F.x F.cd dX2_rootOf_11 rfl (lv_at hl 0 rfl) ?_
    refine lv_aload_n F.x F.cd dX2_rootOf_12 rfl (lv_at hl 0 rfl) ?_
    refine lv_iload_n F.x F.cd dX2_rootOf_13 rfl (lv_at hl 1 rfl) ?_
    refine n_iald (i := j) (n := n) (f := (fun x9 => nI (P x9))) (x := (nI (P j))) F hW (ep) (by omega) (by omega) (rfl) dX2_rootOf_14 ?_
    refine s_callS (As := [.ref pa, .int (nI (P j))]) (rest := []) (n := 2) F hW (k_X2_rootOf_7 g l σ pa n c P Rt dp (P j) ep hU h1 (by have := h6 (fun e => c_4 e); omega) hn) q695 q696 q69 q697 (by decide +kernel) rfl ⟨⟨Nat.le_of_ble_eq_true rfl, Nat.le_of_ble_eq_true rfl⟩, ⟨(Nat.le_of_ble_eq_true rfl), (Nat.le_of_ble_eq_true rfl)⟩⟩ (Nat.le_of_ble_eq_true rfl) hl.1 rfl dX2_rootOf_15 cX_no (fun r1 σ1 H locs hp1 hW => ?_)
    obtain ⟨rfl, hs1⟩ := hp1
    rw [hs1] at hW
    refine W.eq (g2 := F0 m_ 18 ls (.int (nI (Rt j)) :: [])) (by rw [h4]; rfl) ?_
    subst hQ
    exact s_reti (v := (nI (Rt j))) F hW rfl (⟨rfl, rfl⟩) ⟨(Nat.le_of_ble_eq_true rfl), (Nat.le_of_ble_eq_true rfl)⟩ dX2_rootOf_18
  · refine lv_iload_n F.x F.cd dX2_rootOf_7 rfl (lv_at hl 1 rfl) ?_
    refine lv_goto (tgt := 18) F.x F.cd dX2_rootOf_8 (by decide) ?_
    subst hQ
    exact s_reti (v := (nI j)) F hW rfl (⟨by rw [(h5 c_4).1], rfl⟩) ⟨(Nat.le_of_ble_eq_true rfl), (Nat.le_of_ble_eq_true rfl)⟩ dX2_rootOf_18
set_option maxHeartbeats 4000000 in
theorem k_X2_rootOf_9 (g : Gh) (l : Launch) (σ : Sto) (pa n c : Nat) (P Rt dp : Nat → Nat) (j : Nat) (ep : σ pa = some (eI g 0 n (fun x9 => nI (P x9)))) (hU : UF P Rt dp n c) (hj : j < n) (hd : dp j ≤ 9) (hn : n ≤ 8) : Ct g l yX2_rootOf cX2_rootOf 2 (some .int) ({ frames := 9, cells := 0, slots := 0, locals := 189 } : Room) [.ref pa, .int (nI j)] σ (fun r σ' => r = some (.int (nI (Rt j))) ∧ σ' = σ) (nox) := by
  refine Ct.body (by decide) (Nat.le_of_ble_eq_true rfl) ?_
  intro p_ e_ s_ m_ args_ below_ meth_ c_ ls H locs Q F hW hl hQ
  have hl : lv_has ls 2 [(0, .ref pa), (1, .int (nI j))] := hl
  obtain ⟨h1, h2, h3, h4, h5, h6, h7⟩ := hU j hj
  refine lv_aload_n F.x F.cd dX2_rootOf_0 rfl (lv_at hl 0 rfl) ?_
  refine lv_iload_n F.x F.cd dX2_rootOf_1 rfl (lv_at hl 1 rfl) ?_
  refine n_iald (i := j) (n := n) (f := (fun x9 => nI (P x9))) (x := (nI (P j))) F hW (ep) (by omega) (by omega) (rfl) dX2_rootOf_2 ?_
  refine lv_iload_n F.x F.cd dX2_rootOf_3 rfl (lv_at hl 1 rfl) ?_
  refine n_icmp_ne (a := P j) (b := j) (tgt := 11) F (by omega) (by omega) dX2_rootOf_4 (by decide) (fun c_4 => ?_) (fun c_4 => ?_)
  · refine lv_aload_n F.x F.cd dX2_rootOf_11 rfl (lv_at hl 0 rfl) ?_
    refine lv_aload_n F.x F.cd dX2_rootOf_12 rfl (lv_at hl 0 rfl) ?_
    refine lv_iload_n F.x F.cd dX2_rootOf_13 rfl (lv_at hl 1 rfl) ?_
    refine n_iald (i := j) (n := n) (f := (fun x9 => nI (P x9))) (x := (nI (P j))) F hW (ep) (by omega) (by omega) (rfl) dX2_rootOf_14 ?_
    refine s_callS (As := [.ref pa, .int (nI (P j))]) (rest := []) (n := 2) F hW (k_X2_rootOf_8 g l σ pa n c P Rt dp (P j) ep hU h1 (by have := h6 (fun e => c_4 e); omega) hn) q695 q696 q69 q697 (by decide +kernel) rfl ⟨⟨Nat.le_of_ble_eq_true rfl, Nat.le_of_ble_eq_true rfl⟩, ⟨(Nat.le_of_ble_eq_true rfl), (Nat.le_of_ble_eq_true rfl)⟩⟩ (Nat.le_of_ble_eq_true rfl) hl.1 rfl dX2_rootOf_15 cX_no (fun r1 σ1 H locs hp1 hW => ?_)
    obtain ⟨rfl, hs1⟩ := hp1
    rw [hs1] at hW
    refine W.eq (g2 := F0 m_ 18 ls (.int (nI (Rt j)) :: [])) (by rw [h4]; rfl) ?_
    subst hQ
    exact s_reti (v := (nI (Rt j))) F hW rfl (⟨rfl, rfl⟩) ⟨(Nat.le_of_ble_eq_true rfl), (Nat.le_of_ble_eq_true rfl)⟩ dX2_rootOf_18
  · refine lv_iload_n F.x F.cd dX2_rootOf_7 rfl (lv_at hl 1 rfl) ?_
    refine lv_goto (tgt := 18) F.x F.cd dX2_rootOf_8 (by decide) ?_
    subst hQ
    exact s_reti (v := (nI j)) F hW rfl (⟨by rw [(h5 c_4).1], rfl⟩) ⟨(Nat.le_of_ble_eq_true rfl), (Nat.le_of_ble_eq_true rfl)⟩ dX2_rootOf_18
set_option maxHeartbeats 4000000 in
theorem k_X2_rootOf_10 (g : Gh) (l : Launch) (σ : Sto) (pa n c : Nat) (P Rt dp : Nat → Nat) (j : Nat) (ep : σ pa = some (eI g 0 n (fun x9 => nI (P x9)))) (hU : UF P Rt dp n c) (hj : j < n) (hd : dp j ≤ 10) (hn : n ≤ 8) : Ct g l yX2_rootOf cX2_rootOf 2 (some .int) ({ frames := 10, cells := 0, slots := 0, locals := 210 } : Room) [.ref pa, .int (nI j)] σ (fun r σ' => r = some (.int (nI (Rt j))) ∧ σ' = σ) (nox) := by
  refine Ct.body (by decide) (Nat.le_of_ble_eq_true rfl) ?_
  intro p_ e_ s_ m_ args_ below_ meth_ c_ ls H locs Q F hW hl hQ
  have hl : lv_has ls 2 [(0, .ref pa), (1, .int (nI j))] := hl
  obtain ⟨h1, h2, h3, h4, h5, h6, h7⟩ := hU j hj
  refine lv_aload_n F.x F.cd dX2_rootOf_0 rfl (lv_at hl 0 rfl) ?_
  refine lv_iload_n F.x F.cd dX2_rootOf_1 rfl (lv_at hl 1 rfl) ?_
  refine n_iald (i := j) (n := n) (f := (fun x9 => nI (P x9))) (x := (nI (P j))) F hW (ep) (by omega) (by omega) (rfl) dX2_rootOf_2 ?_
  refine lv_iload_n F.x F.cd dX2_rootOf_3 rfl (lv_at hl 1 rfl) ?_
  refine n_icmp_ne (a := P j) (b := j) (tgt := 11) F (by omega) (by omega) dX2_rootOf_4 (by decide) (fun c_4 => ?_) (fun c_4 => ?_)
  · refine lv_aload_n F.x F.cd dX2_rootOf_11 rfl (lv_at hl 0 rfl) ?_
    refine lv_aload_n F.x F.cd dX2_rootOf_12 rfl (lv_at hl 0 rfl) ?_
    refine lv_iload_n F.x F.cd dX2_rootOf_13 rfl (lv_at hl 1 rfl) ?_
    refine n_iald (i := j) (n := n) (f := (fun x9 => nI (P x9))) (x := (nI (P j))) F hW (ep) (by omega) (by omega) (rfl) dX2_rootOf_14 ?_
    refine s_callS (As := [.ref pa, .int (nI (P j))]) (rest := []) (n := 2) F hW (k_X2_rootOf_9 g l σ pa n c P Rt dp (P j) ep hU h1 (by have := h6 (fun e => c_4 e); omega) hn) q695 q696 q69 q697 (by decide +kernel) rfl ⟨⟨Nat.le_of_ble_eq_true rfl, Nat.le_of_ble_eq_true rfl⟩, ⟨(Nat.le_of_ble_eq_true rfl), (Nat.le_of_ble_eq_true rfl)⟩⟩ (Nat.le_of_ble_eq_true rfl) hl.1 rfl dX2_rootOf_15 cX_no (fun r1 σ1 H locs hp1 hW => ?_)
    obtain ⟨rfl, hs1⟩ := hp1
    rw [hs1] at hW
    refine W.eq (g2 := F0 m_ 18 ls (.int (nI (Rt j)) :: [])) (by rw [h4]; rfl) ?_
    subst hQ
    exact s_reti (v := (nI (Rt j))) F hW rfl (⟨rfl, rfl⟩) ⟨(Nat.le_of_ble_eq_true rfl), (Nat.le_of_ble_eq_true rfl)⟩ dX2_rootOf_18
  · refine lv_iload_n F.x F.cd dX2_rootOf_7 rfl (lv_at hl 1 rfl) ?_
    refine lv_goto (tgt := 18) F.x F.cd dX2_rootOf_8 (by decide) ?_
    subst hQ
    exact s_reti (v := (nI j)) F hW rfl (⟨by rw [(h5 c_4).1], rfl⟩) ⟨(Nat.le_of_ble_eq_true rfl), (Nat.le_of_ble_eq_true rfl)⟩ dX2_rootOf_18
set_option maxHeartbeats 4000000 in
theorem k_X2_rootOf_11 (g : Gh) (l : Launch) (σ : Sto) (pa n c : Nat) (P Rt dp : Nat → Nat) (j : Nat) (ep : σ pa = some (eI g 0 n (fun x9 => nI (P x9)))) (hU : UF P Rt dp n c) (hj : j < n) (hd : dp j ≤ 11) (hn : n ≤ 8) : Ct g l yX2_rootOf cX2_rootOf 2 (some .int) ({ frames := 11, cells := 0, slots := 0, locals := 231 } : Room) [.ref pa, .int (nI j)] σ (fun r σ' => r = some (.int (nI (Rt j))) ∧ σ' = σ) (nox) := by
  refine Ct.body (by decide) (Nat.le_of_ble_eq_true rfl) ?_
  intro p_ e_ s_ m_ args_ below_ meth_ c_ ls H locs Q F hW hl hQ
  have hl : lv_has ls 2 [(0, .ref pa), (1, .int (nI j))] := hl
  obtain ⟨h1, h2, h3, h4, h5, h6, h7⟩ := hU j hj
  refine lv_aload_n F.x F.cd dX2_rootOf_0 rfl (lv_at hl 0 rfl) ?_
  refine lv_iload_n F.x F.cd dX2_rootOf_1 rfl (lv_at hl 1 rfl) ?_
  refine n_iald (i := j) (n := n) (f := (fun x9 => nI (P x9))) (x := (nI (P j))) F hW (ep) (by omega) (by omega) (rfl) dX2_rootOf_2 ?_
  refine lv_iload_n F.x F.cd dX2_rootOf_3 rfl (lv_at hl 1 rfl) ?_
  refine n_icmp_ne (a := P j) (b := j) (tgt := 11) F (by omega) (by omega) dX2_rootOf_4 (by decide) (fun c_4 => ?_) (fun c_4 => ?_)
  · refine lv_aload_n F.x F.cd dX2_rootOf_11 rfl (lv_at hl 0 rfl) ?_
    refine lv_aload_n F.x F.cd dX2_rootOf_12 rfl (lv_at hl 0 rfl) ?_
    refine lv_iload_n F.x F.cd dX2_rootOf_13 rfl (lv_at hl 1 rfl) ?_
    refine n_iald (i := j) (n := n) (f := (fun x9 => nI (P x9))) (x := (nI (P j))) F hW (ep) (by omega) (by omega) (rfl) dX2_rootOf_14 ?_
    refine s_callS (As := [.ref pa, .int (nI (P j))]) (rest := []) (n := 2) F hW (k_X2_rootOf_10 g l σ pa n c P Rt dp (P j) ep hU h1 (by have := h6 (fun e => c_4 e); omega) hn) q695 q696 q69 q697 (by decide +kernel) rfl ⟨⟨Nat.le_of_ble_eq_true rfl, Nat.le_of_ble_eq_true rfl⟩, ⟨(Nat.le_of_ble_eq_true rfl), (Nat.le_of_ble_eq_true rfl)⟩⟩ (Nat.le_of_ble_eq_true rfl) hl.1 rfl dX2_rootOf_15 cX_no (fun r1 σ1 H locs hp1 hW => ?_)
    obtain ⟨rfl, hs1⟩ := hp1
    rw [hs1] at hW
    refine W.eq (g2 := F0 m_ 18 ls (.int (nI (Rt j)) :: [])) (by rw [h4]; rfl) ?_
    subst hQ
    exact s_reti (v := (nI (Rt j))) F hW rfl (⟨rfl, rfl⟩) ⟨(Nat.le_of_ble_eq_true rfl), (Nat.le_of_ble_eq_true rfl)⟩ dX2_rootOf_18
  · refine lv_iload_n F.x F.cd dX2_rootOf_7 rfl (lv_at hl 1 rfl) ?_
    refine lv_goto (tgt := 18) F.x F.cd dX2_rootOf_8 (by decide) ?_
    subst hQ
    exact s_reti (v := (nI j)) F hW rfl (⟨by rw [(h5 c_4).1], rfl⟩) ⟨(Nat.le_of_ble_eq_true rfl), (Nat.le_of_ble_eq_true rfl)⟩ dX2_rootOf_18
set_option maxHeartbeats 4000000 in
theorem k_X2_rootOf_12 (g : Gh) (l : Launch) (σ : Sto) (pa n c : Nat) (P Rt dp : Nat → Nat) (j : Nat) (ep : σ pa = some (eI g 0 n (fun x9 => nI (P x9)))) (hU : UF P Rt dp n c) (hj : j < n) (hd : dp j ≤ 12) (hn : n ≤ 8) : Ct g l yX2_rootOf cX2_rootOf 2 (some .int) ({ frames := 12, cells := 0, slots := 0, locals := 252 } : Room) [.ref pa, .int (nI j)] σ (fun r σ' => r = some (.int (nI (Rt j))) ∧ σ' = σ) (nox) := by
  refine Ct.body (by decide) (Nat.le_of_ble_eq_true rfl) ?_
  intro p_ e_ s_ m_ args_ below_ meth_ c_ ls H locs Q F hW hl hQ
  have hl : lv_has ls 2 [(0, .ref pa), (1, .int (nI j))] := hl
  obtain ⟨h1, h2, h3, h4, h5, h6, h7⟩ := hU j hj
  refine lv_aload_n F.x F.cd dX2_rootOf_0 rfl (lv_at hl 0 rfl) ?_
  refine lv_iload_n F.x F.cd dX2_rootOf_1 rfl (lv_at hl 1 rfl) ?_
  refine n_iald (i := j) (n := n) (f := (fun x9 => nI (P x9))) (x := (nI (P j))) F hW (ep) (by omega) (by omega) (rfl) dX2_rootOf_2 ?_
  refine lv_iload_n F.x F.cd dX2_rootOf_3 rfl (lv_at hl 1 rfl) ?_
  refine n_icmp_ne (a := P j) (b := j) (tgt := 11) F (by omega) (by omega) dX2_rootOf_4 (by decide) (fun c_4 => ?_) (fun c_4 => ?_)
  · refine lv_aload_n F.x F.cd dX2_rootOf_11 rfl (lv_at hl 0 rfl) ?_
    refine lv_aload_n F.x F.cd dX2_rootOf_12 rfl (lv_at hl 0 rfl) ?_
    refine lv_iload_n F.x F.cd dX2_rootOf_13 rfl (lv_at hl 1 rfl) ?_
    refine n_iald (i := j) (n := n) (f := (fun x9 => nI (P x9))) (x := (nI (P j))) F hW (ep) (by omega) (by omega) (rfl) dX2_rootOf_14 ?_
    refine s_callS (As := [.ref pa, .int (nI (P j))]) (rest := []) (n := 2) F hW (k_X2_rootOf_11 g l σ pa n c P Rt dp (P j) ep hU h1 (by have := h6 (fun e => c_4 e); omega) hn) q695 q696 q69 q697 (by decide +kernel) rfl ⟨⟨Nat.le_of_ble_eq_true rfl, Nat.le_of_ble_eq_true rfl⟩, ⟨(Nat.le_of_ble_eq_true rfl), (Nat.le_of_ble_eq_true rfl)⟩⟩ (Nat.le_of_ble_eq_true rfl) hl.1 rfl dX2_rootOf_15 cX_no (fun r1 σ1 H locs hp1 hW => ?_)
    obtain ⟨rfl, hs1⟩ := hp1
    rw [hs1] at hW
    refine W.eq (g2 := F0 m_ 18 ls (.int (nI (Rt j)) :: [])) (by rw [h4]; rfl) ?_
    subst hQ
    exact s_reti (v := (nI (Rt j))) F hW rfl (⟨rfl, rfl⟩) ⟨(Nat.le_of_ble_eq_true rfl), (Nat.le_of_ble_eq_true rfl)⟩ dX2_rootOf_18
  · refine lv_iload_n F.x F.cd dX2_rootOf_7 rfl (lv_at hl 1 rfl) ?_
    refine lv_goto (tgt := 18) F.x F.cd dX2_rootOf_8 (by decide) ?_
    subst hQ
    exact s_reti (v := (nI j)) F hW rfl (⟨by rw [(h5 c_4).1], rfl⟩) ⟨(Nat.le_of_ble_eq_true rfl), (Nat.le_of_ble_eq_true rfl)⟩ dX2_rootOf_18
set_option maxHeartbeats 4000000 in
theorem k_X2_groupsByUnions (g : Gh) (l : Launch) (σ : Sto) (L v : Nat → Nat) (hWk : IsWorks g σ L v) (hI : Inv v) : Ct g l yX2_groupsByUnions cX2_groupsByUnions 6 (some .int) ({ frames := 13, cells := 1, slots := 8, locals := 273 } : Room) [.ref (L 0)] σ (fun r σ' => r = some (.int (nI (grN v (v 0)))) ∧ Ext σ σ') (nox) := by
  refine Ct.body (by decide) (Nat.le_of_ble_eq_true rfl) ?_
  intro p_ e_ s_ m_ args_ below_ meth_ c_ ls H locs Q F hW hl hQ
  have hl : lv_has ls 6 [(0, .ref (L 0))] := hl
  have hT := hWk.2.2.1
  have hP := hWk.2.2.2.1
  obtain ⟨mcT, nT, fT, eT, bT, -⟩ := id hT
  obtain ⟨mcP, nP, fP, eP, bP, -⟩ := id hP
  have hv0 := hI.1
  have hv1 := hI.2.1
  refine lv_aload_n F.x F.cd dX2_groupsByUnions_0 rfl (lv_at hl 0 rfl) ?_
  refine s_get F hW (ci := 1) (C := RX2) (T := TX2) (N := 6) (v := .ref (L 1)) (hWk.1) rfl in_X2 0 (by decide) q159 (fun _ h9 => h9) rfl dX2_groupsByUnions_1 ?_
  refine s_callF (As := []) (rest := []) (C := RJ2) (T := TJ2) (N := 3) (n := 0) F hW (k_J2_size g l σ _ _ _ _ hT) (eT) rfl (List.mem_of_getElem? (i := 0) rfl) q317 q272 q274 q72 q276 (by decide +kernel) rfl ⟨⟨Nat.le_of_ble_eq_true rfl, Nat.le_of_ble_eq_true rfl⟩, ⟨(Nat.le_of_ble_eq_true rfl), (Nat.le_of_ble_eq_true rfl)⟩⟩ (Nat.le_of_ble_eq_true rfl) hl.1 rfl dX2_groupsByUnions_4 cX_no (fun r1 σ1 H locs hp1 hW => ?_)
  obtain ⟨rfl, hs1⟩ := hp1
  rw [hs1] at hW
  refine W.eq (g2 := F0 m_ 9 ls (.int (nI (v 0)) :: [])) rfl ?_
  refine s_newa F hW 0 (N := v 0) (atype := .int) (ty := .int) rfl rfl rfl q699 (v 0, .inl (fun _ => 0)) rfl (nI_pos (by omega)) (nI_clamp (by omega)) (by show _ * 4 ≤ _; omega) (Nat.le_of_ble_eq_true rfl) (Nat.le_trans (m := 8) (by show 0 + v 0 ≤ _; omega) (Nat.le_of_ble_eq_true rfl)) dX2_groupsByUnions_9 (fun q2_ H hb_q2_ hn_q2_ hW => ?_)
  refine W.widen (k := 1) (n := 8) (Nat.le_of_ble_eq_true rfl) (by show 0 + v 0 ≤ _; omega) ?_
  obtain ⟨σ3, hσ3⟩ : ∃ z, z = sset σ q2_ (eI g 0 (v 0) (fun x9 => nI ((fun _ => 0) x9))) := ⟨_, rfl⟩
  have hW : Hl g σ3 H locs := by rw [hσ3]; exact hW
  have w3 : σ3 q2_ = some (eI g 0 (v 0) (fun x9 => nI ((fun _ => 0) x9))) := by rw [hσ3]; exact sset_eq
  have f4 : σ3 (L 0) = some (.inr (1, [.ref (L 1), .ref (L 2), .int (nI (v 2)), .int (nI (v 3)), .int (nI (v 4)), .int (nI (v 5))])) := by rw [hσ3, sset_ne (sto_ne0 hn_q2_ hWk.1)]; exact hWk.1
  have f5 : σ3 (L 1) = some (.inr (2, [.int mcT, .ref (L 3), .int (nI (v 0))])) := by rw [hσ3, sset_ne (sto_ne0 hn_q2_ eT)]; exact eT
  have j6 := IsList.new (e := eI g 0 (v 0) (fun x9 => nI ((fun _ => 0) x9))) (hT) (hn_q2_)
  rw [← hσ3] at j6
  have f7 : σ3 (L 2) = some (.inr (2, [.int mcP, .ref (L 4), .int (nI (v 1))])) := by rw [hσ3, sset_ne (sto_ne0 hn_q2_ eP)]; exact eP
  have j8 := IsList.new (e := eI g 0 (v 0) (fun x9 => nI ((fun _ => 0) x9))) (hP) (hn_q2_)
  rw [← hσ3] at j8
  refine lv_astore_n (lv' := [(1, .ref q2_), (0, .ref (L 0))]) F.x F.cd dX2_groupsByUnions_11 rfl hl (by decide) rfl (fun ls hl => ?_)
  have hxp : σ q2_ = none := hn_q2_
  have hX0 : Ext σ σ3 := by rw [hσ3]; exact Ext.new hxp
  have hep0 : σ3 q2_ = some (eI g 0 (v 0) (fun x9 => nI ((fun x => if x < 0 then x else 0) x9))) := by rw [w3]; rfl
  refine lv_iconst (v := (nI 0)) F.x F.cd dX2_groupsByUnions_12 (by decide) ?_
  refine lv_istore_n (lv' := [(2, .int (nI 0)), (1, .ref q2_), (0, .ref (L 0))]) F.x F.cd dX2_groupsByUnions_13 rfl hl (by decide) rfl (fun ls hl => ?_)
  have loop14 : ∀ (y : Nat) (i : Nat) (σk : Sto), i + y = v 0 → Ext σ σk → σk q2_ = some (eI g 0 (v 0) (fun x9 => nI ((fun x => if x < i then x else 0) x9))) → ∀ (H : Heap) (locs : List Loc) (ls : Array Slot), Hl g σk H locs → lv_has ls 6 [(0, .ref (L 0)), (1, .ref q2_), (2, .int (nI i))] → W p_ l e_ ({ frames := 13, cells := 1, slots := 8, locals := 273 } : Room) s_ m_ args_ below_ meth_ c_ H locs 1 8 Q (F0 m_ 14 ls ([])) := by
    intro y
    induction y with
    | zero =>
      intro i σk hky hXk hep H locs ls hW hl
      have hWn := hWk.ext hXk
      have hT_k := hWn.2.2.1
      have hP_k := hWn.2.2.2.1
      obtain ⟨mcT_k, nT_k, fT_k, eT_k, bT_k, -⟩ := id hT_k
      obtain ⟨mcP_k, nP_k, fP_k, eP_k, bP_k, -⟩ := id hP_k
      have hv0_k := hI.1
      have hv1_k := hI.2.1
      refine lv_iload_n F.x F.cd dX2_groupsByUnions_14 rfl (lv_at hl 2 rfl) ?_
      refine lv_aload_n F.x F.cd dX2_groupsByUnions_15 rfl (lv_at hl 1 rfl) ?_
      refine s_alen F hW (hep) 0 rfl (v := nI (v 0)) rfl dX2_groupsByUnions_16 ?_
      refine n_icmp_ge (a := i) (b := v 0) (tgt := 30) F (by omega) (by omega) dX2_groupsByUnions_17 (by decide) (fun c_17 => ?_) (fun c_17 => ?_)
      · have hiv : i = v 0 := by omega
        rw [hiv] at hep
        refine lv_aload_n F.x F.cd dX2_groupsByUnions_30 rfl (lv_at hl 1 rfl) ?_
        refine s_alen F hW (hep) 0 rfl (v := nI (v 0)) rfl dX2_groupsByUnions_31 ?_
        refine lv_istore_n (lv' := [(2, .int (nI (v 0))), (0, .ref (L 0)), (1, .ref q2_)]) F.x F.cd dX2_groupsByUnions_32 rfl hl (by decide) rfl (fun ls hl => ?_)
        refine lv_iconst (v := (nI 0)) F.x F.cd dX2_groupsByUnions_33 (by decide) ?_
        refine lv_istore_n (lv' := [(3, .int (nI 0)), (2, .int (nI (v 0))), (0, .ref (L 0)), (1, .ref q2_)]) F.x F.cd dX2_groupsByUnions_34 rfl hl (by decide) rfl (fun ls hl => ?_)
        have hl : lv_has ls 6 [(3, .int (nI 0)), (2, .int (nI (grR (fun j => j) (v 0)))), (0, .ref (L 0)), (1, .ref q2_)] := by rw [grR_id]; exact hl
        have loop35 : ∀ (n : Nat) (k : Nat) (σj : Sto) (P Rt dp : Nat → Nat), k + n = v 1 → Ext σ σj → σj q2_ = some (eI g 0 (v 0) (fun x9 => nI (P x9))) → UF P Rt dp (v 0) k → UI v Rt k → ∀ (H : Heap) (locs : List Loc) (ls : Array Slot), Hl g σj H locs → lv_has ls 6 [(0, .ref (L 0)), (1, .ref q2_), (2, .int (nI (grR Rt (v 0)))), (3, .int (nI k))] → W p_ l e_ ({ frames := 13, cells := 1, slots := 8, locals := 273 } : Room) s_ m_ args_ below_ meth_ c_ H locs 1 8 Q (F0 m_ 35 ls ([])) := by
          intro n
          induction n with
          | zero =>
            intro k σj P Rt dp hkn hXk hep hU hUI H locs ls hW hl
            have hWn := hWk.ext hXk
            have hT_k := hWn.2.2.1
            have hP_k := hWn.2.2.2.1
            obtain ⟨mcT_k, nT_k, fT_k, eT_k, bT_k, -⟩ := id hT_k
            obtain ⟨mcP_k, nP_k, fP_k, eP_k, bP_k, -⟩ := id hP_k
            have hv0_k := hI.1
            have hv1_k := hI.2.1
            refine lv_iload_n F.x F.cd dX2_groupsByUnions_35 rfl (lv_at hl 3 rfl) ?_
            refine lv_aload_n F.x F.cd dX2_groupsByUnions_36 rfl (lv_at hl 0 rfl) ?_
            refine s_get F hW (ci := 1) (C := RX2) (T := TX2) (N := 6) (v := .ref (L 2)) (hWn.1) rfl in_X2 1 (by decide) q162 (fun _ h9 => h9) rfl dX2_groupsByUnions_37 ?_
            refine s_callF (As := []) (rest := [.int (nI k)]) (C := RJ2) (T := TJ2) (N := 3) (n := 0) F hW (k_J2_size g l σj _ _ _ _ hP_k) (eP_k) rfl (List.mem_of_getElem? (i := 0) rfl) q317 q272 q274 q72 q276 (by decide +kernel) rfl ⟨⟨Nat.le_of_ble_eq_true rfl, Nat.le_of_ble_eq_true rfl⟩, ⟨(Nat.le_of_ble_eq_true rfl), (Nat.le_of_ble_eq_true rfl)⟩⟩ (Nat.le_of_ble_eq_true rfl) hl.1 rfl dX2_groupsByUnions_40 cX_no (fun r9 σ9 H locs hp9 hW => ?_)
            obtain ⟨rfl, hs9⟩ := hp9
            rw [hs9] at hW
            refine W.eq (g2 := F0 m_ 45 ls (.int (nI (v 1)) :: .int (nI k) :: [])) rfl ?_
            refine n_icmp_ge (a := k) (b := v 1) (tgt := 133) F (by omega) (by omega) dX2_groupsByUnions_45 (by decide) (fun c_45 => ?_) (fun c_45 => ?_)
            · refine lv_iload_n F.x F.cd dX2_groupsByUnions_133 rfl (lv_at hl 2 rfl) ?_
              subst hQ
              exact s_reti (v := (nI (grR Rt (v 0)))) F hW rfl (⟨by rw [UI.done hI (by rw [← show k = v 1 by omega]; exact hUI) (v 0) (Nat.le_refl _)], hXk⟩) ⟨(Nat.le_of_ble_eq_true rfl), (Nat.le_of_ble_eq_true rfl)⟩ dX2_groupsByUnions_134
            · exact absurd c_45 (by omega)
          | succ n ih35 =>
            intro k σj P Rt dp hkn hXk hep hU hUI H locs ls hW hl
            have hWn := hWk.ext hXk
            have hT_k := hWn.2.2.1
            have hP_k := hWn.2.2.2.1
            obtain ⟨mcT_k, nT_k, fT_k, eT_k, bT_k, -⟩ := id hT_k
            obtain ⟨mcP_k, nP_k, fP_k, eP_k, bP_k, -⟩ := id hP_k
            have hv0_k := hI.1
            have hv1_k := hI.2.1
            refine lv_iload_n F.x F.cd dX2_groupsByUnions_35 rfl (lv_at hl 3 rfl) ?_
            refine lv_aload_n F.x F.cd dX2_groupsByUnions_36 rfl (lv_at hl 0 rfl) ?_
            refine s_get F hW (ci := 1) (C := RX2) (T := TX2) (N := 6) (v := .ref (L 2)) (hWn.1) rfl in_X2 1 (by decide) q162 (fun _ h9 => h9) rfl dX2_groupsByUnions_37 ?_
            refine s_callF (As := []) (rest := [.int (nI k)]) (C := RJ2) (T := TJ2) (N := 3) (n := 0) F hW (k_J2_size g l σj _ _ _ _ hP_k) (eP_k) rfl (List.mem_of_getElem? (i := 0) rfl) q317 q272 q274 q72 q276 (by decide +kernel) rfl ⟨⟨Nat.le_of_ble_eq_true rfl, Nat.le_of_ble_eq_true rfl⟩, ⟨(Nat.le_of_ble_eq_true rfl), (Nat.le_of_ble_eq_true rfl)⟩⟩ (Nat.le_of_ble_eq_true rfl) hl.1 rfl dX2_groupsByUnions_40 cX_no (fun r10 σ10 H locs hp10 hW => ?_)
            obtain ⟨rfl, hs10⟩ := hp10
            rw [hs10] at hW
            refine W.eq (g2 := F0 m_ 45 ls (.int (nI (v 1)) :: .int (nI k) :: [])) rfl ?_
            refine n_icmp_ge (a := k) (b := v 1) (tgt := 133) F (by omega) (by omega) dX2_groupsByUnions_45 (by decide) (fun c_45 => ?_) (fun c_45 => ?_)
            · exact absurd c_45 (by omega)
            · have hpq := hI.pp (q := k) (by omega)
              refine lv_aload_n F.x F.cd dX2_groupsByUnions_48 rfl (lv_at hl 1 rfl) ?_
              refine lv_aload_n F.x F.cd dX2_groupsByUnions_49 rfl (lv_at hl 0 rfl) ?_
              refine s_get F hW (ci := 1) (C := RX2) (T := TX2) (N := 6) (v := .ref (L 2)) (hWn.1) rfl in_X2 1 (by decide) q162 (fun _ h9 => h9) rfl dX2_groupsByUnions_50 ?_
              refine lv_iload_n F.x F.cd dX2_groupsByUnions_53 rfl (lv_at hl 3 rfl) ?_
              refine s_callF (As := [.int (nI k)]) (rest := [.ref q2_]) (C := RJ2) (T := TJ2) (N := 3) (n := 1) F hW (k_J2_get g l σj _ _ _ _ k hP_k (by omega)) (eP_k) rfl (List.mem_of_getElem? (i := 1) rfl) q693 q328 q330 q72 q332 (by decide +kernel) rfl ⟨⟨Nat.le_of_ble_eq_true rfl, Nat.le_of_ble_eq_true rfl⟩, ⟨(Nat.le_of_ble_eq_true rfl), (Nat.le_of_ble_eq_true rfl)⟩⟩ (Nat.le_of_ble_eq_true rfl) hl.1 rfl dX2_groupsByUnions_54 cX_no (fun r11 σ11 H locs hp11 hW => ?_)
              obtain ⟨rfl, hs11⟩ := hp11
              rw [hs11] at hW
              refine W.eq (g2 := F0 m_ 59 ls (.ref (L (100 + k)) :: .ref q2_ :: [])) rfl ?_
              refine s_cast_ F hW (C := RX5) (T := TX5) (N := 7) ((hWn.2.2.2.2.2.1 k (by omega)).1) rfl q694 dX2_groupsByUnions_59 ?_
              refine s_getN F hW (ci := 9) (C := RX5) (T := TX5) (N := 7) (v := .int (nI (pA v k))) ((hWn.2.2.2.2.2.1 k (by omega)).1) rfl in_X5 0 (by decide) q1069 (fun _ h9 => h9) rfl dX2_groupsByUnions_62 ?_
              refine s_callS (As := [.ref q2_, .int (nI (pA v k))]) (rest := []) (n := 2) F hW (k_X2_rootOf_12 g l σj q2_ (v 0) k P Rt dp (pA v k) (hep) hU hpq.1 (Nat.le_trans ((hU _ hpq.1).2.2.2.2.2.2) (by omega)) hI.1) q695 q696 q69 q697 (by decide +kernel) rfl ⟨⟨Nat.le_of_ble_eq_true rfl, Nat.le_of_ble_eq_true rfl⟩, ⟨(Nat.le_of_ble_eq_true rfl), (Nat.le_of_ble_eq_true rfl)⟩⟩ (Nat.le_of_ble_eq_true rfl) hl.1 rfl dX2_groupsByUnions_65 cX_no (fun r12 σ12 H locs hp12 hW => ?_)
              obtain ⟨rfl, hs12⟩ := hp12
              rw [hs12] at hW
              refine W.eq (g2 := F0 m_ 68 ls (.int (nI (Rt (pA v k))) :: [])) rfl ?_
              refine lv_istore (lv' := [(4, .int (nI (Rt (pA v k)))), (0, .ref (L 0)), (1, .ref q2_), (2, .int (nI (grR Rt (v 0)))), (3, .int (nI k))]) F.x F.cd dX2_groupsByUnions_68 hl (by decide) rfl (fun ls hl => ?_)
              refine lv_aload_n F.x F.cd dX2_groupsByUnions_70 rfl (lv_at hl 2 rfl) ?_
              refine lv_aload_n F.x F.cd dX2_groupsByUnions_71 rfl (lv_at hl 1 rfl) ?_
              refine s_get F hW (ci := 1) (C := RX2) (T := TX2) (N := 6) (v := .ref (L 2)) (hWn.1) rfl in_X2 1 (by decide) q162 (fun _ h9 => h9) rfl dX2_groupsByUnions_72 ?_
              refine lv_iload_n F.x F.cd dX2_groupsByUnions_75 rfl (lv_at hl 4 rfl) ?_
              refine s_callF (As := [.int (nI k)]) (rest := [.ref q2_]) (C := RJ2) (T := TJ2) (N := 3) (n := 1) F hW (k_J2_get g l σj _ _ _ _ k hP_k (by omega)) (eP_k) rfl (List.mem_of_getElem? (i := 1) rfl) q693 q328 q330 q72 q332 (by decide +kernel) rfl ⟨⟨Nat.le_of_ble_eq_true rfl, Nat.le_of_ble_eq_true rfl⟩, ⟨(Nat.le_of_ble_eq_true rfl), (Nat.le_of_ble_eq_true rfl)⟩⟩ (Nat.le_of_ble_eq_true rfl) hl.1 rfl dX2_groupsByUnions_76 cX_no (fun r13 σ13 H locs hp13 hW => ?_)
              obtain ⟨rfl, hs13⟩ := hp13
              rw [hs13] at hW
              refine W.eq (g2 := F0 m_ 81 ls (.ref (L (100 + k)) :: .ref q2_ :: [])) rfl ?_
              refine s_cast_ F hW (C := RX5) (T := TX5) (N := 7) ((hWn.2.2.2.2.2.1 k (by omega)).1) rfl q694 dX2_groupsByUnions_81 ?_
              refine s_getN F hW (ci := 9) (C := RX5) (T := TX5) (N := 7) (v := .int (nI (pB v k))) ((hWn.2.2.2.2.2.1 k (by omega)).1) rfl in_X5 1 (by decide) q1073 (fun _ h9 => h9) rfl dX2_groupsByUnions_84 ?_
              refine s_callS (As := [.ref q2_, .int (nI (pB v k))]) (rest := []) (n := 2) F hW (k_X2_rootOf_12 g l σj q2_ (v 0) k P Rt dp (pB v k) (hep) hU hpq.2.1 (Nat.le_trans ((hU _ hpq.2.1).2.2.2.2.2.2) (by omega)) hI.1) q695 q696 q69 q697 (by decide +kernel) rfl ⟨⟨Nat.le_of_ble_eq_true rfl, Nat.le_of_ble_eq_true rfl⟩, ⟨(Nat.le_of_ble_eq_true rfl), (Nat.le_of_ble_eq_true rfl)⟩⟩ (Nat.le_of_ble_eq_true rfl) hl.1 rfl dX2_groupsByUnions_87 cX_no (fun r14 σ14 H locs hp14 hW => ?_)
              obtain ⟨rfl, hs14⟩ := hp14
              rw [hs14] at hW
              refine W.eq (g2 := F0 m_ 90 ls (.int (nI (Rt (pB v k))) :: [])) rfl ?_
              refine lv_istore (lv' := [(5, .int (nI (Rt (pB v k)))), (4, .int (nI (Rt (pA v k)))), (0, .ref (L 0)), (1, .ref q2_), (2, .int (nI (grR Rt (v 0)))), (3, .int (nI k))]) F.x F.cd dX2_groupsByUnions_90 hl (by decide) rfl (fun ls hl => ?_)
              have hra := (hU.root hpq.1).2.1
              have hrb := (hU.root hpq.2.1).2.1
              refine lv_aload_n F.x F.cd dX2_groupsByUnions_92 rfl (lv_at hl 2 rfl) ?_
              refine s_get F hW (ci := 1) (C := RX2) (T := TX2) (N := 6) (v := .ref (L 2)) (hWn.1) rfl in_X2 1 (by decide) q162 (fun _ h9 => h9) rfl dX2_groupsByUnions_93 ?_
              refine lv_iload_n F.x F.cd dX2_groupsByUnions_96 rfl (lv_at hl 5 rfl) ?_
              refine s_callF (As := [.int (nI k)]) (rest := []) (C := RJ2) (T := TJ2) (N := 3) (n := 1) F hW (k_J2_get g l σj _ _ _ _ k hP_k (by omega)) (eP_k) rfl (List.mem_of_getElem? (i := 1) rfl) q693 q328 q330 q72 q332 (by decide +kernel) rfl ⟨⟨Nat.le_of_ble_eq_true rfl, Nat.le_of_ble_eq_true rfl⟩, ⟨(Nat.le_of_ble_eq_true rfl), (Nat.le_of_ble_eq_true rfl)⟩⟩ (Nat.le_of_ble_eq_true rfl) hl.1 rfl dX2_groupsByUnions_97 cX_no (fun r15 σ15 H locs hp15 hW => ?_)
              obtain ⟨rfl, hs15⟩ := hp15
              rw [hs15] at hW
              refine W.eq (g2 := F0 m_ 102 ls (.ref (L (100 + k)) :: [])) rfl ?_
              refine s_cast_ F hW (C := RX5) (T := TX5) (N := 7) ((hWn.2.2.2.2.2.1 k (by omega)).1) rfl q694 dX2_groupsByUnions_102 ?_
              refine s_callV (As := []) (rest := []) (C := RX5) (T := TX5) (N := 7) (n := 0) F hW (k_X5_isOpen g l σj (L (100 + k)) (pA v k) (pB v k) (pM v k) (pV v k) (pR v k) (pD v k) (pL v k) ((hWn.2.2.2.2.2.1 k (by omega)).1) (by omega) (by omega)) ((hWn.2.2.2.2.2.1 k (by omega)).1) rfl q698 q672 q673 q96 q674 rfl (by decide +kernel) rfl ⟨⟨Nat.le_of_ble_eq_true rfl, Nat.le_of_ble_eq_true rfl⟩, ⟨(Nat.le_of_ble_eq_true rfl), (Nat.le_of_ble_eq_true rfl)⟩⟩ (Nat.le_of_ble_eq_true rfl) hl.1 rfl dX2_groupsByUnions_105 cX_no (fun r16 σ16 H locs hp16 hW => ?_)
              obtain ⟨rfl, hs16⟩ := hp16
              rw [hs16] at hW
              refine W.eq (g2 := F0 m_ 108 ls (.int (bI (opn (pV v k) (pD v k))) :: [])) rfl ?_
              refine b_if_eq (b := (opn (pV v k) (pD v k))) (tgt := 127) F dX2_groupsByUnions_108 (by decide) (fun c_108 => ?_) (fun c_108 => ?_)
              · refine lv_iinc (k := 5) (v := (nI (k + 1))) (lv' := [(3, .int (nI (k + 1))), (5, .int (nI (Rt (pB v k)))), (4, .int (nI (Rt (pA v k)))), (0, .ref (L 0)), (1, .ref q2_), (2, .int (nI (grR Rt (v 0))))]) F.x F.cd dX2_groupsByUnions_127 hl rfl (inc_nI k 1) (by decide) rfl (fun ls hl => ?_)
                refine lv_goto (tgt := 35) F.x F.cd dX2_groupsByUnions_130 (by decide) ?_
                exact ih35 (k + 1) σj P Rt dp (by omega) (hXk) (hep) (hU.wide (by omega)) (hUI.skip (by rw [c_108]; exact fun h => nomatch h)) H locs ls hW (lv_sub hl [3, 4, 5, 0] rfl)
              · refine lv_iload F.x F.cd dX2_groupsByUnions_111 (lv_at hl 1 rfl) ?_
                refine lv_iload F.x F.cd dX2_groupsByUnions_113 (lv_at hl 0 rfl) ?_
                refine n_icmp_eq (a := Rt (pA v k)) (b := Rt (pB v k)) (tgt := 127) F (by omega) (by omega) dX2_groupsByUnions_115 (by decide) (fun c_115 => ?_) (fun c_115 => ?_)
                · refine lv_iinc (k := 5) (v := (nI (k + 1))) (lv' := [(3, .int (nI (k + 1))), (5, .int (nI (Rt (pB v k)))), (4, .int (nI (Rt (pA v k)))), (0, .ref (L 0)), (1, .ref q2_), (2, .int (nI (grR Rt (v 0))))]) F.x F.cd dX2_groupsByUnions_127 hl rfl (inc_nI k 1) (by decide) rfl (fun ls hl => ?_)
                  refine lv_goto (tgt := 35) F.x F.cd dX2_groupsByUnions_130 (by decide) ?_
                  exact ih35 (k + 1) σj P Rt dp (by omega) (hXk) (hep) (hU.wide (by omega)) (hUI.skip (fun _ => c_115)) H locs ls hW (lv_sub hl [3, 4, 5, 0] rfl)
                · refine lv_aload_n F.x F.cd dX2_groupsByUnions_118 rfl (lv_at hl 3 rfl) ?_
                  refine lv_iload F.x F.cd dX2_groupsByUnions_119 (lv_at hl 0 rfl) ?_
                  refine lv_iload F.x F.cd dX2_groupsByUnions_121 (lv_at hl 1 rfl) ?_
                  refine n_iastN (i := Rt (pB v k)) F hW (hep) (hb_q2_) (by omega) (by omega) dX2_groupsByUnions_123 (fun H locs hW => ?_)
                  obtain ⟨σ17, hσ17⟩ : ∃ z, z = sset σj q2_ (eI g 0 (v 0) (fun x9 => nI ((va_up P (Rt (pB v k)) (Rt (pA v k))) x9))) := ⟨_, rfl⟩
                  have hW : Hl g σ17 H locs := by rw [hσ17]; exact hW
                  have w17 : σ17 q2_ = some (eI g 0 (v 0) (fun x9 => nI ((va_up P (Rt (pB v k)) (Rt (pA v k))) x9))) := by rw [hσ17]; exact sset_eq
                  have f18 : σ17 (L 0) = some (.inr (1, [.ref (L 1), .ref (L 2), .int (nI (v 2)), .int (nI (v 3)), .int (nI (v 4)), .int (nI (v 5))])) := by rw [hσ17, sset_ne (sto_ne hep hWn.1 (by simp))]; exact hWn.1
                  have f19 : σ17 (L 1) = some (.inr (2, [.int mcT_k, .ref (L 3), .int (nI (v 0))])) := by rw [hσ17, sset_ne (sto_ne hep eT_k (by simp))]; exact eT_k
                  have j20 := IsList.setI (e := eI g 0 (v 0) (fun x9 => nI ((va_up P (Rt (pB v k)) (Rt (pA v k))) x9))) (hT_k) (hep)
                  rw [← hσ17] at j20
                  have f21 : σ17 (L 2) = some (.inr (2, [.int mcP_k, .ref (L 4), .int (nI (v 1))])) := by rw [hσ17, sset_ne (sto_ne hep eP_k (by simp))]; exact eP_k
                  have j22 := IsList.setI (e := eI g 0 (v 0) (fun x9 => nI ((va_up P (Rt (pB v k)) (Rt (pA v k))) x9))) (hP_k) (hep)
                  rw [← hσ17] at j22
                  have f23 : σ17 (L (100 + k)) = some (.inr (9, [.int (nI (pA v k)), .int (nI (pB v k)), .int (nI (pM v k)), .int (nI (pV v k)), .int (nI (pR v k)), .int (nI (pD v k)), .int (nI (pL v k))])) := by rw [hσ17, sset_ne (sto_ne hep ((hWn.2.2.2.2.2.1 k (by omega)).1) (by simp))]; exact (hWn.2.2.2.2.2.1 k (by omega)).1
                  have hgd := grR_dec hpq.1 hpq.2.1 c_115
                  refine lv_iinc (k := 4) (v := (nI (grR (fun j => if Rt j = Rt (pB v k) then Rt (pA v k) else Rt j) (v 0)))) (lv' := [(2, .int (nI (grR (fun j => if Rt j = Rt (pB v k) then Rt (pA v k) else Rt j) (v 0)))), (5, .int (nI (Rt (pB v k)))), (4, .int (nI (Rt (pA v k)))), (0, .ref (L 0)), (1, .ref q2_), (3, .int (nI k))]) F.x F.cd dX2_groupsByUnions_124 hl rfl (dec_nI hgd.1 hgd.2) (by decide) rfl (fun ls hl => ?_)
                  refine lv_iinc (k := 5) (v := (nI (k + 1))) (lv' := [(3, .int (nI (k + 1))), (2, .int (nI (grR (fun j => if Rt j = Rt (pB v k) then Rt (pA v k) else Rt j) (v 0)))), (5, .int (nI (Rt (pB v k)))), (4, .int (nI (Rt (pA v k)))), (0, .ref (L 0)), (1, .ref q2_)]) F.x F.cd dX2_groupsByUnions_127 hl rfl (inc_nI k 1) (by decide) rfl (fun ls hl => ?_)
                  refine lv_goto (tgt := 35) F.x F.cd dX2_groupsByUnions_130 (by decide) ?_
                  exact ih35 (k + 1) σ17 _ (fun j => if Rt j = Rt (pB v k) then Rt (pA v k) else Rt j) (fun j => if Rt j = Rt (pB v k) then dp j + 1 else dp j) (by omega) (by rw [hσ17]; exact hXk.set hxp) (w17) (hU.union (hU.root hpq.1).2.1 (hU.root hpq.2.1).2.1 (hU.root hpq.1).1 (hU.root hpq.2.1).1 c_115) (hUI.step hI (by omega) c_108) H locs ls hW (lv_sub hl [4, 5, 1, 0] rfl)
        exact loop35 (v 1) 0 _ _ _ _ (by omega) (hXk) (hep) (UF.start') (UI.start) H locs ls hW (lv_sub hl [2, 3, 1, 0] rfl)
      · exact absurd c_17 (by omega)
    | succ y ih14 =>
      intro i σk hky hXk hep H locs ls hW hl
      have hWn := hWk.ext hXk
      have hT_k := hWn.2.2.1
      have hP_k := hWn.2.2.2.1
      obtain ⟨mcT_k, nT_k, fT_k, eT_k, bT_k, -⟩ := id hT_k
      obtain ⟨mcP_k, nP_k, fP_k, eP_k, bP_k, -⟩ := id hP_k
      have hv0_k := hI.1
      have hv1_k := hI.2.1
      refine lv_iload_n F.x F.cd dX2_groupsByUnions_14 rfl (lv_at hl 2 rfl) ?_
      refine lv_aload_n F.x F.cd dX2_groupsByUnions_15 rfl (lv_at hl 1 rfl) ?_
      refine s_alen F hW (hep) 0 rfl (v := nI (v 0)) rfl dX2_groupsByUnions_16 ?_
      refine n_icmp_ge (a := i) (b := v 0) (tgt := 30) F (by omega) (by omega) dX2_groupsByUnions_17 (by decide) (fun c_17 => ?_) (fun c_17 => ?_)
      · exact absurd c_17 (by omega)
      · refine lv_aload_n F.x F.cd dX2_groupsByUnions_20 rfl (lv_at hl 1 rfl) ?_
        refine lv_iload_n F.x F.cd dX2_groupsByUnions_21 rfl (lv_at hl 2 rfl) ?_
        refine lv_iload_n F.x F.cd dX2_groupsByUnions_22 rfl (lv_at hl 2 rfl) ?_
        refine n_iastN (i := i) F hW (hep) (hb_q2_) (by omega) (by omega) dX2_groupsByUnions_23 (fun H locs hW => ?_)
        obtain ⟨σ24, hσ24⟩ : ∃ z, z = sset σk q2_ (eI g 0 (v 0) (fun x9 => nI ((va_up (fun x => if x < i then x else 0) i i) x9))) := ⟨_, rfl⟩
        have hW : Hl g σ24 H locs := by rw [hσ24]; exact hW
        have w24 : σ24 q2_ = some (eI g 0 (v 0) (fun x9 => nI ((va_up (fun x => if x < i then x else 0) i i) x9))) := by rw [hσ24]; exact sset_eq
        have f25 : σ24 (L 0) = some (.inr (1, [.ref (L 1), .ref (L 2), .int (nI (v 2)), .int (nI (v 3)), .int (nI (v 4)), .int (nI (v 5))])) := by rw [hσ24, sset_ne (sto_ne hep hWn.1 (by simp))]; exact hWn.1
        have f26 : σ24 (L 1) = some (.inr (2, [.int mcT_k, .ref (L 3), .int (nI (v 0))])) := by rw [hσ24, sset_ne (sto_ne hep eT_k (by simp))]; exact eT_k
        have j27 := IsList.setI (e := eI g 0 (v 0) (fun x9 => nI ((va_up (fun x => if x < i then x else 0) i i) x9))) (hT_k) (hep)
        rw [← hσ24] at j27
        have f28 : σ24 (L 2) = some (.inr (2, [.int mcP_k, .ref (L 4), .int (nI (v 1))])) := by rw [hσ24, sset_ne (sto_ne hep eP_k (by simp))]; exact eP_k
        have j29 := IsList.setI (e := eI g 0 (v 0) (fun x9 => nI ((va_up (fun x => if x < i then x else 0) i i) x9))) (hP_k) (hep)
        rw [← hσ24] at j29
        refine lv_iinc (k := 2) (v := (nI (i + 1))) (lv' := [(2, .int (nI (i + 1))), (0, .ref (L 0)), (1, .ref q2_)]) F.x F.cd dX2_groupsByUnions_24 hl rfl (inc_nI i 1) (by decide) rfl (fun ls hl => ?_)
        refine lv_goto (tgt := 14) F.x F.cd dX2_groupsByUnions_27 (by decide) ?_
        exact ih14 (i + 1) σ24 (by omega) (by rw [hσ24]; exact hXk.set hxp) (by rw [← fill_up]; exact w24) H locs ls hW (lv_sub hl [1, 2, 0] rfl)
  exact loop14 (v 0) 0 _ (by omega) (hX0) (hep0) H locs ls hW (lv_sub hl [2, 1, 0] rfl)
