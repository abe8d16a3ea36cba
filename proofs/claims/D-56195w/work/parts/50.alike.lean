/-! ===== areWaysAlike ===== -/
set_option maxRecDepth 100000
set_option maxHeartbeats 4000000 in
theorem k_X2_areWaysAlike (g : Gh) (l : Launch) (σ : Sto) (L v : Nat → Nat) (a : Nat) (hWk : IsWorks g σ L v) (hI : Inv v) (ha : a < v 0) : Ct g l yX2_areWaysAlike cX2_areWaysAlike 7 (some .boolean) ({ frames := 13, cells := 87, slots := 2612, locals := 304 } : Room) [.ref (L 0), .int (nI a)] σ (fun r σ' => r = some (.int (bI true)) ∧ Ext σ σ') (nox) := by
  refine Ct.body (by decide) (Nat.le_of_ble_eq_true rfl) ?_
  intro p_ e_ s_ m_ args_ below_ meth_ c_ ls H locs Q F hW hl hQ
  have hl : lv_has ls 7 [(0, .ref (L 0)), (1, .int (nI a))] := hl
  have hT := hWk.2.2.1
  have hP := hWk.2.2.2.1
  obtain ⟨mcT, nT, fT, eT, bT, -⟩ := id hT
  obtain ⟨mcP, nP, fP, eP, bP, -⟩ := id hP
  have hv0 := hI.1
  have hv1 := hI.2.1
  have hst0 := (hI.tk ha).2.2.2
  refine lv_iconst (v := (nI 1)) F.x F.cd dX2_areWaysAlike_0 (by decide) ?_
  refine lv_istore_n (lv' := [(2, .int (nI 1)), (0, .ref (L 0)), (1, .int (nI a))]) F.x F.cd dX2_areWaysAlike_1 rfl hl (by decide) rfl (fun ls hl => ?_)
  refine lv_aload_n F.x F.cd dX2_areWaysAlike_2 rfl (lv_at hl 1 rfl) ?_
  refine lv_iload_n F.x F.cd dX2_areWaysAlike_3 rfl (lv_at hl 2 rfl) ?_
  refine s_callV (As := [.int (nI a)]) (rest := []) (C := RX2) (T := TX2) (N := 6) (n := 1) F hW (k_X2_widths g l σ L v a hWk hI (by omega)) (hWk.1) rfl q841 q842 q843 q69 q844 rfl (by decide +kernel) rfl ⟨⟨Nat.le_of_ble_eq_true rfl, Nat.le_of_ble_eq_true rfl⟩, ⟨(Nat.le_of_ble_eq_true rfl), (Nat.le_of_ble_eq_true rfl)⟩⟩ (Nat.le_of_ble_eq_true rfl) hl.1 rfl dX2_areWaysAlike_4 cX_no (fun r1 σ1 H locs hp1 hW => ?_)
  obtain ⟨qw1, Aw1, rfl, hq1, hE1, hw1⟩ := hp1
  refine W.eq (g2 := F0 m_ 7 ls (.ref qw1 :: [])) rfl ?_
  have hWk1 := hWk.ext hE1
  have hXt1 := Ext.trans (Ext.refl) hE1
  have hT_1 := hWk1.2.2.1
  have hP_1 := hWk1.2.2.2.1
  obtain ⟨mcT_1, nT_1, fT_1, eT_1, bT_1, -⟩ := id hT_1
  obtain ⟨mcP_1, nP_1, fP_1, eP_1, bP_1, -⟩ := id hP_1
  have hv0_1 := hI.1
  have hv1_1 := hI.2.1
  refine lv_astore_n (lv' := [(3, .ref qw1), (2, .int (nI 1)), (0, .ref (L 0)), (1, .int (nI a))]) F.x F.cd dX2_areWaysAlike_7 rfl hl (by decide) rfl (fun ls hl => ?_)
  refine lv_aload_n F.x F.cd dX2_areWaysAlike_8 rfl (lv_at hl 2 rfl) ?_
  refine lv_iload_n F.x F.cd dX2_areWaysAlike_9 rfl (lv_at hl 3 rfl) ?_
  refine s_callV (As := [.int (nI a)]) (rest := []) (C := RX2) (T := TX2) (N := 6) (n := 1) F hW (k_X2_reach g l σ1 L v a hWk1 hI (by omega)) (hWk1.1) rfl q857 q858 q859 q69 q860 rfl (by decide +kernel) rfl ⟨⟨Nat.le_of_ble_eq_true rfl, Nat.le_of_ble_eq_true rfl⟩, ⟨(Nat.le_of_ble_eq_true rfl), (Nat.le_of_ble_eq_true rfl)⟩⟩ (Nat.le_of_ble_eq_true rfl) hl.1 rfl dX2_areWaysAlike_10 cX_no (fun r2 σ2 H locs hp2 hW => ?_)
  obtain ⟨qr2, ba2, f2, rfl, hq2, hb2, hE2, hr2⟩ := hp2
  refine W.eq (g2 := F0 m_ 13 ls (.ref qr2 :: [])) rfl ?_
  have hWk2 := hWk1.ext hE2
  have hXt2 := Ext.trans (hXt1) hE2
  have hT_2 := hWk2.2.2.1
  have hP_2 := hWk2.2.2.2.1
  obtain ⟨mcT_2, nT_2, fT_2, eT_2, bT_2, -⟩ := id hT_2
  obtain ⟨mcP_2, nP_2, fP_2, eP_2, bP_2, -⟩ := id hP_2
  have hv0_2 := hI.1
  have hv1_2 := hI.2.1
  refine lv_astore (lv' := [(4, .ref qr2), (3, .ref qw1), (2, .int (nI 1)), (0, .ref (L 0)), (1, .int (nI a))]) F.x F.cd dX2_areWaysAlike_13 hl (by decide) rfl (fun ls hl => ?_)
  refine lv_aload_n F.x F.cd dX2_areWaysAlike_15 rfl (lv_at hl 3 rfl) ?_
  refine lv_iload_n F.x F.cd dX2_areWaysAlike_16 rfl (lv_at hl 4 rfl) ?_
  refine s_callV (As := [.int (nI a)]) (rest := []) (C := RX2) (T := TX2) (N := 6) (n := 1) F hW (k_X2_reachByPasses g l σ2 L v a hWk2 hI (by omega)) (hWk2.1) rfl q894 q895 q896 q69 q897 rfl (by decide +kernel) rfl ⟨⟨Nat.le_of_ble_eq_true rfl, Nat.le_of_ble_eq_true rfl⟩, ⟨(Nat.le_of_ble_eq_true rfl), (Nat.le_of_ble_eq_true rfl)⟩⟩ (Nat.le_of_ble_eq_true rfl) hl.1 rfl dX2_areWaysAlike_17 cX_no (fun r3 σ3 H locs hp3 hW => ?_)
  obtain ⟨qr3, ba3, f3, rfl, hq3, hb3, hE3, hr3⟩ := hp3
  refine W.eq (g2 := F0 m_ 20 ls (.ref qr3 :: [])) rfl ?_
  have hWk3 := hWk2.ext hE3
  have hXt3 := Ext.trans (hXt2) hE3
  have hT_3 := hWk3.2.2.1
  have hP_3 := hWk3.2.2.2.1
  obtain ⟨mcT_3, nT_3, fT_3, eT_3, bT_3, -⟩ := id hT_3
  obtain ⟨mcP_3, nP_3, fP_3, eP_3, bP_3, -⟩ := id hP_3
  have hv0_3 := hI.1
  have hv1_3 := hI.2.1
  refine lv_astore (lv' := [(5, .ref qr3), (4, .ref qr2), (3, .ref qw1), (2, .int (nI 1)), (0, .ref (L 0)), (1, .int (nI a))]) F.x F.cd dX2_areWaysAlike_20 hl (by decide) rfl (fun ls hl => ?_)
  refine lv_iconst (v := (nI 0)) F.x F.cd dX2_areWaysAlike_22 (by decide) ?_
  refine lv_istore (lv' := [(6, .int (nI 0)), (5, .ref qr3), (4, .ref qr2), (3, .ref qw1), (2, .int (nI 1)), (0, .ref (L 0)), (1, .int (nI a))]) F.x F.cd dX2_areWaysAlike_23 hl (by decide) rfl (fun ls hl => ?_)
  have hl : lv_has ls 7 [(6, .int (nI 0)), (5, .ref qr3), (4, .ref qr2), (3, .ref qw1), (2, .int (bI true)), (0, .ref (L 0)), (1, .int (nI a))] := hl
  have loop25 : ∀ (n : Nat) (k : Nat) (σk : Sto), k + n = v 0 → Ext σ3 σk → ∀ (H : Heap) (locs : List Loc) (ls : Array Slot), Hl g σk H locs → lv_has ls 7 [(0, .ref (L 0)), (1, .int (nI a)), (2, .int (bI true)), (3, .ref qw1), (4, .ref qr2), (5, .ref qr3), (6, .int (nI k))] → W p_ l e_ ({ frames := 13, cells := 87, slots := 2612, locals := 304 } : Room) s_ m_ args_ below_ meth_ c_ H locs (7 + 10 * k) (2132 + 60 * k) Q (F0 m_ 25 ls ([])) := by
    intro n
    induction n with
    | zero =>
      intro k σk hkn hXl H locs ls hW hl
      have hWn := hWk3.ext hXl
      have hT_k := hWn.2.2.1
      have hP_k := hWn.2.2.2.1
      obtain ⟨mcT_k, nT_k, fT_k, eT_k, bT_k, -⟩ := id hT_k
      obtain ⟨mcP_k, nP_k, fP_k, eP_k, bP_k, -⟩ := id hP_k
      have hv0_k := hI.1
      have hv1_k := hI.2.1
      refine W.widen (k := 87) (n := 2612) (by omega) (by omega) ?_
      refine lv_iload F.x F.cd dX2_areWaysAlike_25 (lv_at hl 6 rfl) ?_
      refine lv_aload_n F.x F.cd dX2_areWaysAlike_27 rfl (lv_at hl 0 rfl) ?_
      refine s_get F hW (ci := 1) (C := RX2) (T := TX2) (N := 6) (v := .ref (L 1)) (hWn.1) rfl in_X2 0 (by decide) q159 (fun _ h9 => h9) rfl dX2_areWaysAlike_28 ?_
      refine s_callF (As := []) (rest := [.int (nI k)]) (C := RJ2) (T := TJ2) (N := 3) (n := 0) F hW (k_J2_size g l σk _ _ _ _ hT_k) (eT_k) rfl (List.mem_of_getElem? (i := 0) rfl) q317 q272 q274 q72 q276 (by decide +kernel) rfl ⟨⟨Nat.le_of_ble_eq_true rfl, Nat.le_of_ble_eq_true rfl⟩, ⟨(Nat.le_of_ble_eq_true rfl), (Nat.le_of_ble_eq_true rfl)⟩⟩ (Nat.le_of_ble_eq_true rfl) hl.1 rfl dX2_areWaysAlike_31 cX_no (fun r4 σ4 H locs hp4 hW => ?_)
      obtain ⟨rfl, hs4⟩ := hp4
      rw [hs4] at hW
      refine W.eq (g2 := F0 m_ 36 ls (.int (nI (v 0)) :: .int (nI k) :: [])) rfl ?_
      refine n_icmp_ge (a := k) (b := v 0) (tgt := 86) F (by omega) (by omega) dX2_areWaysAlike_36 (by decide) (fun c_36 => ?_) (fun c_36 => ?_)
      · refine lv_iload_n F.x F.cd dX2_areWaysAlike_86 rfl (lv_at hl 2 rfl) ?_
        subst hQ
        exact s_reti (v := (bI true)) F hW (nar_bI _) (⟨rfl, Ext.trans (hXt3) hXl⟩) ⟨(Nat.le_of_ble_eq_true rfl), (Nat.le_of_ble_eq_true rfl)⟩ dX2_areWaysAlike_87
      · exact absurd c_36 (by omega)
    | succ n ih25 =>
      intro k σk hkn hXl H locs ls hW hl
      have hWn := hWk3.ext hXl
      have hT_k := hWn.2.2.1
      have hP_k := hWn.2.2.2.1
      obtain ⟨mcT_k, nT_k, fT_k, eT_k, bT_k, -⟩ := id hT_k
      obtain ⟨mcP_k, nP_k, fP_k, eP_k, bP_k, -⟩ := id hP_k
      have hv0_k := hI.1
      have hv1_k := hI.2.1
      refine lv_iload F.x F.cd dX2_areWaysAlike_25 (lv_at hl 6 rfl) ?_
      refine lv_aload_n F.x F.cd dX2_areWaysAlike_27 rfl (lv_at hl 0 rfl) ?_
      refine s_get F hW (ci := 1) (C := RX2) (T := TX2) (N := 6) (v := .ref (L 1)) (hWn.1) rfl in_X2 0 (by decide) q159 (fun _ h9 => h9) rfl dX2_areWaysAlike_28 ?_
      refine s_callF (As := []) (rest := [.int (nI k)]) (C := RJ2) (T := TJ2) (N := 3) (n := 0) F hW (k_J2_size g l σk _ _ _ _ hT_k) (eT_k) rfl (List.mem_of_getElem? (i := 0) rfl) q317 q272 q274 q72 q276 (by decide +kernel) rfl ⟨⟨Nat.le_of_ble_eq_true rfl, Nat.le_of_ble_eq_true rfl⟩, ⟨(by show (7 + 10 * k) + 0 ≤ 87; omega), (by show (2132 + 60 * k) + 0 ≤ 2612; omega)⟩⟩ (Nat.le_of_ble_eq_true rfl) hl.1 rfl dX2_areWaysAlike_31 cX_no (fun r5 σ5 H locs hp5 hW => ?_)
      obtain ⟨rfl, hs5⟩ := hp5
      rw [hs5] at hW
      refine W.eq (g2 := F0 m_ 36 ls (.int (nI (v 0)) :: .int (nI k) :: [])) rfl ?_
      refine n_icmp_ge (a := k) (b := v 0) (tgt := 86) F (by omega) (by omega) dX2_areWaysAlike_36 (by decide) (fun c_36 => ?_) (fun c_36 => ?_)
      · exact absurd c_36 (by omega)
      · refine lv_iload_n F.x F.cd dX2_areWaysAlike_39 rfl (lv_at hl 2 rfl) ?_
        refine b_if_eq (b := true) (tgt := 78) F dX2_areWaysAlike_40 (by decide) (fun c_40 => ?_) (fun c_40 => ?_)
        · exact absurd c_40 (by decide)
        · refine lv_aload_n F.x F.cd dX2_areWaysAlike_43 rfl (lv_at hl 3 rfl) ?_
          refine lv_iload F.x F.cd dX2_areWaysAlike_44 (lv_at hl 6 rfl) ?_
          refine n_iald (i := k) (n := v 0) (f := (fun x9 => nI (Aw1 x9))) (x := (nI (Aw1 k))) F hW ((hXl.at (hE3.at (hE2.at hq1)))) (by omega) (by omega) (rfl) dX2_areWaysAlike_46 ?_
          refine lv_aload_n F.x F.cd dX2_areWaysAlike_47 rfl (lv_at hl 0 rfl) ?_
          refine lv_iload_n F.x F.cd dX2_areWaysAlike_48 rfl (lv_at hl 1 rfl) ?_
          refine lv_iload F.x F.cd dX2_areWaysAlike_49 (lv_at hl 6 rfl) ?_
          refine s_callV (As := [.int (nI a), .int (nI k)]) (rest := [.int (nI (Aw1 k))]) (C := RX2) (T := TX2) (N := 6) (n := 2) F hW (k_X2_widthBySettings g l σk L v a k hWn hI (by omega) (by omega)) (hWn.1) rfl q902 q903 q904 q69 q905 rfl (by decide +kernel) rfl ⟨⟨Nat.le_of_ble_eq_true rfl, Nat.le_of_ble_eq_true rfl⟩, ⟨(by show (7 + 10 * k + 0) + 10 ≤ 87; omega), (by show (2132 + 60 * k + 0) + 60 ≤ 2612; omega)⟩⟩ (Nat.le_of_ble_eq_true rfl) hl.1 rfl dX2_areWaysAlike_51 cX_no (fun r6 σ6 H locs hp6 hW => ?_)
          obtain ⟨rfl, hE6⟩ := hp6
          refine W.eq (g2 := F0 m_ 54 ls (.int (nI (wb v a k 4)) :: .int (nI (Aw1 k)) :: [])) rfl ?_
          have hWk6 := hWn.ext hE6
          have hXt6 := Ext.trans (Ext.trans (hXt3) hXl) hE6
          have hT_6 := hWk6.2.2.1
          have hP_6 := hWk6.2.2.2.1
          obtain ⟨mcT_6, nT_6, fT_6, eT_6, bT_6, -⟩ := id hT_6
          obtain ⟨mcP_6, nP_6, fP_6, eP_6, bP_6, -⟩ := id hP_6
          have hv0_6 := hI.1
          have hv1_6 := hI.2.1
          have hwk9 : Aw1 k = wb v a k 4 := hw1 k (by omega)
          have hwl9 := wb_le (v := v) (a := a) (b := k) 4
          refine n_icmp_ne (a := Aw1 k) (b := wb v a k 4) (tgt := 78) F (by omega) (by omega) dX2_areWaysAlike_54 (by decide) (fun c_54 => ?_) (fun c_54 => ?_)
          · exact absurd (hw1 k (by omega)) c_54
          · refine lv_aload F.x F.cd dX2_areWaysAlike_57 (lv_at hl 4 rfl) ?_
            refine lv_iload F.x F.cd dX2_areWaysAlike_59 (lv_at hl 6 rfl) ?_
            refine s_callV (As := [.int (nI k)]) (rest := []) (C := RX11) (T := TX11) (N := 2) (n := 1) F hW (k_X11_fewest g l σ6 qr2 ba2 (v 0) (tI v a) f2 k ((hE6.at (hXl.at (hE3.at hq2)))) ((hE6.at (hXl.at (hE3.at hb2)))) hI.1 (by omega) (by omega)) ((hE6.at (hXl.at (hE3.at hq2)))) rfl q906 q907 q908 q109 q909 rfl (by decide +kernel) rfl ⟨⟨Nat.le_of_ble_eq_true rfl, Nat.le_of_ble_eq_true rfl⟩, ⟨(by show (7 + 10 * k + 0 + 10) + 0 ≤ 87; omega), (by show (2132 + 60 * k + 0 + 60) + 0 ≤ 2612; omega)⟩⟩ (Nat.le_of_ble_eq_true rfl) hl.1 rfl dX2_areWaysAlike_61 cX_no (fun r7 σ7 H locs hp7 hW => ?_)
            obtain ⟨rfl, hs7⟩ := hp7
            rw [hs7] at hW
            refine W.eq (g2 := F0 m_ 64 ls (.int (oI (fwl f2 k ((tI v a) + 1))) :: [])) rfl ?_
            refine lv_aload F.x F.cd dX2_areWaysAlike_64 (lv_at hl 5 rfl) ?_
            refine lv_iload F.x F.cd dX2_areWaysAlike_66 (lv_at hl 6 rfl) ?_
            refine s_callV (As := [.int (nI k)]) (rest := [.int (oI (fwl f2 k ((tI v a) + 1)))]) (C := RX11) (T := TX11) (N := 2) (n := 1) F hW (k_X11_fewest g l σ6 qr3 ba3 (v 0) (tI v a) f3 k ((hE6.at (hXl.at hq3))) ((hE6.at (hXl.at hb3))) hI.1 (by omega) (by omega)) ((hE6.at (hXl.at hq3))) rfl q906 q907 q908 q109 q909 rfl (by decide +kernel) rfl ⟨⟨Nat.le_of_ble_eq_true rfl, Nat.le_of_ble_eq_true rfl⟩, ⟨(by show (7 + 10 * k + 0 + 10 + 0) + 0 ≤ 87; omega), (by show (2132 + 60 * k + 0 + 60 + 0) + 0 ≤ 2612; omega)⟩⟩ (Nat.le_of_ble_eq_true rfl) hl.1 rfl dX2_areWaysAlike_68 cX_no (fun r8 σ8 H locs hp8 hW => ?_)
            obtain ⟨rfl, hs8⟩ := hp8
            rw [hs8] at hW
            refine W.eq (g2 := F0 m_ 71 ls (.int (oI (fwl f3 k ((tI v a) + 1))) :: .int (oI (fwl f2 k ((tI v a) + 1))) :: [])) rfl ?_
            refine lv_icmp_ne (x := (oI (fwl f2 k ((tI v a) + 1)))) (y := (oI (fwl f3 k ((tI v a) + 1)))) (tgt := 78) F.x F.cd dX2_areWaysAlike_71 (by decide) (fun c_71 => ?_) (fun c_71 => ?_)
            · exact absurd (by rw [fwl_congr (rc_congr hr2 hr3 k) _ (by omega)]) c_71
            · refine lv_iconst (v := (nI 1)) F.x F.cd dX2_areWaysAlike_74 (by decide) ?_
              refine lv_goto (tgt := 79) F.x F.cd dX2_areWaysAlike_75 (by decide) ?_
              refine W.eq (g2 := F0 m_ 79 ls (.int (bI true) :: [])) (rfl) ?_
              refine lv_istore_n (lv' := [(2, .int (bI true)), (0, .ref (L 0)), (1, .int (nI a)), (3, .ref qw1), (4, .ref qr2), (5, .ref qr3), (6, .int (nI k))]) F.x F.cd dX2_areWaysAlike_79 rfl hl (by decide) rfl (fun ls hl => ?_)
              refine lv_iinc (k := 6) (v := (nI (k + 1))) (lv' := [(6, .int (nI (k + 1))), (2, .int (bI true)), (0, .ref (L 0)), (1, .int (nI a)), (3, .ref qw1), (4, .ref qr2), (5, .ref qr3)]) F.x F.cd dX2_areWaysAlike_80 hl rfl (inc_nI k 1) (by decide) rfl (fun ls hl => ?_)
              refine lv_goto (tgt := 25) F.x F.cd dX2_areWaysAlike_83 (by decide) ?_
              refine W.widen (k := 7 + 10 * (k + 1)) (n := 2132 + 60 * (k + 1)) (by show (7 + 10 * k + 0 + 10 + 0 + 0) ≤ _; omega) (by show (2132 + 60 * k + 0 + 60 + 0 + 0) ≤ _; omega) ?_
              exact ih25 (k + 1) σ6 (by omega) (hXl.trans hE6) H locs ls hW (lv_sub hl [2, 3, 1, 4, 5, 6, 0] rfl)
  exact loop25 (v 0) 0 _ (by omega) (Ext.refl) H locs ls hW (lv_sub hl [5, 6, 4, 3, 2, 1, 0] rfl)
