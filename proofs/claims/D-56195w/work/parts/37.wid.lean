/-! ===== Works: widths ===== -/
set_option maxRecDepth 100000
set_option maxHeartbeats 4000000 in
theorem k_X2_widthBySettings (g : Gh) (l : Launch) (σ : Sto) (L v : Nat → Nat) (a b : Nat) (hWk : IsWorks g σ L v) (hI : Inv v) (ha : a < v 0) (hb : b < v 0) : Ct g l yX2_widthBySettings cX2_widthBySettings 4 (some .int) ({ frames := 12, cells := 10, slots := 60, locals := 281 } : Room) [.ref (L 0), .int (nI a), .int (nI b)] σ (fun r σ' => r = some (.int (nI (wb v a b 4))) ∧ Ext σ σ') (nox) := by
  refine Ct.body (by decide) (Nat.le_of_ble_eq_true rfl) ?_
  intro p_ e_ s_ m_ args_ below_ meth_ c_ ls H locs Q F hW hl hQ
  have hl : lv_has ls 4 [(0, .ref (L 0)), (1, .int (nI a)), (2, .int (nI b))] := hl
  have hT := hWk.2.2.1
  have hP := hWk.2.2.2.1
  obtain ⟨mcT, nT, fT, eT, bT, -⟩ := id hT
  obtain ⟨mcP, nP, fP, eP, bP, -⟩ := id hP
  have hv0 := hI.1
  have hv1 := hI.2.1
  refine lv_iconst (v := (nI 4)) F.x F.cd dX2_widthBySettings_0 (by decide) ?_
  refine lv_istore_n (lv' := [(3, .int (nI 4)), (0, .ref (L 0)), (1, .int (nI a)), (2, .int (nI b))]) F.x F.cd dX2_widthBySettings_1 rfl hl (by decide) rfl (fun ls hl => ?_)
  have loop2 : ∀ (n : Nat) (j : Nat) (σk : Sto), j + n = 4 → Ext σ σk → wb v a b (4 - j) = wb v a b 4 → ∀ (H : Heap) (locs : List Loc) (ls : Array Slot), Hl g σk H locs → lv_has ls 4 [(0, .ref (L 0)), (1, .int (nI a)), (2, .int (nI b)), (3, .int (nI (4 - j)))] → W p_ l e_ ({ frames := 12, cells := 10, slots := 60, locals := 281 } : Room) s_ m_ args_ below_ meth_ c_ H locs (0 + 2 * j) (0 + 12 * j) Q (F0 m_ 2 ls ([])) := by
    intro n
    induction n with
    | zero =>
      intro j σk hkn hXk hfd H locs ls hW hl
      have hWn := hWk.ext hXk
      have hT_k := hWn.2.2.1
      have hP_k := hWn.2.2.2.1
      obtain ⟨mcT_k, nT_k, fT_k, eT_k, bT_k, -⟩ := id hT_k
      obtain ⟨mcP_k, nP_k, fP_k, eP_k, bP_k, -⟩ := id hP_k
      have hv0_k := hI.1
      have hv1_k := hI.2.1
      refine W.widen (k := 8) (n := 48) (by omega) (by omega) ?_
      refine lv_iload_n F.x F.cd dX2_widthBySettings_2 rfl (lv_at hl 3 rfl) ?_
      refine n_if_le (a := 4 - j) (tgt := 23) F (by omega) dX2_widthBySettings_3 (by decide) (fun c_3 => ?_) (fun c_3 => ?_)
      · refine lv_iload_n F.x F.cd dX2_widthBySettings_23 rfl (lv_at hl 3 rfl) ?_
        subst hQ
        exact s_reti (v := (nI (4 - j))) F hW rfl (⟨by rw [← hfd, show 4 - j = 0 by omega]; rfl, hXk⟩) ⟨(Nat.le_of_ble_eq_true rfl), (Nat.le_of_ble_eq_true rfl)⟩ dX2_widthBySettings_24
      · exact absurd c_3 (by omega)
    | succ n ih2 =>
      intro j σk hkn hXk hfd H locs ls hW hl
      have hWn := hWk.ext hXk
      have hT_k := hWn.2.2.1
      have hP_k := hWn.2.2.2.1
      obtain ⟨mcT_k, nT_k, fT_k, eT_k, bT_k, -⟩ := id hT_k
      obtain ⟨mcP_k, nP_k, fP_k, eP_k, bP_k, -⟩ := id hP_k
      have hv0_k := hI.1
      have hv1_k := hI.2.1
      refine lv_iload_n F.x F.cd dX2_widthBySettings_2 rfl (lv_at hl 3 rfl) ?_
      refine n_if_le (a := 4 - j) (tgt := 23) F (by omega) dX2_widthBySettings_3 (by decide) (fun c_3 => ?_) (fun c_3 => ?_)
      · exact absurd c_3 (by omega)
      · refine lv_aload_n F.x F.cd dX2_widthBySettings_6 rfl (lv_at hl 0 rfl) ?_
        refine lv_iload_n F.x F.cd dX2_widthBySettings_7 rfl (lv_at hl 1 rfl) ?_
        refine lv_iload_n F.x F.cd dX2_widthBySettings_8 rfl (lv_at hl 2 rfl) ?_
        refine lv_iload_n F.x F.cd dX2_widthBySettings_9 rfl (lv_at hl 3 rfl) ?_
        refine lv_iconst (v := (-1 : Int32)) F.x F.cd dX2_widthBySettings_10 (by decide) ?_
        refine s_callV (As := [.int (nI a), .int (nI b), .int (nI (4 - j)), .int (-1 : Int32)]) (rest := []) (C := RX2) (T := TX2) (N := 6) (n := 4) F hW (k_X2_areConnected g l σk L v a b (4 - j) (-1 : Int32) hWn hI (by omega) (by omega) (by omega)) (hWn.1) rfl q762 q764 qs5 q69 q765 rfl (by decide +kernel) rfl ⟨⟨Nat.le_of_ble_eq_true rfl, Nat.le_of_ble_eq_true rfl⟩, ⟨(by show (0 + 2 * j) + 2 ≤ 10; omega), (by show (0 + 12 * j) + 12 ≤ 60; omega)⟩⟩ (Nat.le_of_ble_eq_true rfl) hl.1 rfl dX2_widthBySettings_11 cX_no (fun r1 σ1 H locs hp1 hW => ?_)
        obtain ⟨rfl, hE1⟩ := hp1
        refine W.eq (g2 := F0 m_ 14 ls (.int (bI (conB v (4 - j) (-1 : Int32) a b)) :: [])) rfl ?_
        have hWk1 := hWn.ext hE1
        have hXt1 := Ext.trans (hXk) hE1
        have hT_1 := hWk1.2.2.1
        have hP_1 := hWk1.2.2.2.1
        obtain ⟨mcT_1, nT_1, fT_1, eT_1, bT_1, -⟩ := id hT_1
        obtain ⟨mcP_1, nP_1, fP_1, eP_1, bP_1, -⟩ := id hP_1
        have hv0_1 := hI.1
        have hv1_1 := hI.2.1
        refine b_if_ne (b := (conB v (4 - j) (-1 : Int32) a b)) (tgt := 23) F dX2_widthBySettings_14 (by decide) (fun c_14 => ?_) (fun c_14 => ?_)
        · refine lv_iload_n F.x F.cd dX2_widthBySettings_23 rfl (lv_at hl 3 rfl) ?_
          subst hQ
          exact s_reti (v := (nI (4 - j))) F hW rfl (⟨by rw [← hfd, wb_t (by omega) c_14], hXt1⟩) ⟨(by show (0 + 2 * j + 2) ≤ 10; omega), (by show (0 + 12 * j + 12) ≤ 60; omega)⟩ dX2_widthBySettings_24
        · refine lv_iinc (k := 3) (v := (nI (4 - (j + 1)))) (lv' := [(3, .int (nI (4 - (j + 1)))), (0, .ref (L 0)), (1, .int (nI a)), (2, .int (nI b))]) F.x F.cd dX2_widthBySettings_17 hl rfl (dec_nI (by omega) (by omega)) (by decide) rfl (fun ls hl => ?_)
          refine lv_goto (tgt := 2) F.x F.cd dX2_widthBySettings_20 (by decide) ?_
          refine W.widen (k := 0 + 2 * (j + 1)) (n := 0 + 12 * (j + 1)) (by show (0 + 2 * j + 2) ≤ _; omega) (by show (0 + 12 * j + 12) ≤ _; omega) ?_
          exact ih2 (j + 1) σ1 (by omega) (hXt1) (by rw [← hfd, wb_f (by omega) c_14]; rfl) H locs ls hW (lv_sub hl [1, 2, 3, 0] rfl)
  exact loop2 (4) 0 _ (by omega) (Ext.refl) (rfl) H locs ls hW (lv_sub hl [1, 2, 3, 0] rfl)
