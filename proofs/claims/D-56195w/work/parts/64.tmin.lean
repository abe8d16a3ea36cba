/-! ===== the twin: a minute ===== -/
set_option maxRecDepth 100000
set_option maxHeartbeats 4000000 in
theorem k_X3_minute (g : Gh) (l : Launch) (σ : Sto) (m : Nat) (A : Nat → Nat) (iv : Nat → Int32) (wd : Nat) (ar : Nat → Nat → Nat) (rb : Nat → Bool)  (hw : IsTw g σ m A iv wd ar rb) (hI : Inv (ar 0)) : Ct g l yX3_minute cX3_minute 9 (some .int) ({ frames := 3, cells := 0, slots := 0, locals := 69 } : Room) [.ref m] σ (fun r σ' => r = some (.int (nI (flN (ar 0) (ar 0 1)))) ∧ IsTw g σ' m A iv wd (va_up ar 0 (minv (ar 0))) rb ∧ Fm σ σ' m A) (nox) := by
  refine Ct.body (by decide) (Nat.le_of_ble_eq_true rfl) ?_
  intro p_ e_ s_ m_ args_ below_ meth_ c_ ls H locs Q F hW hl hQ
  have hl : lv_has ls 9 [(0, .ref m)] := hl
  obtain ⟨t0, tb0, ta0, ta1, ta2, ta3, ta4, ta5, ta6, ta7, tbb, tii⟩ := id hw
  have hv0 := hI.1
  have hv1 := hI.2.1
  refine lv_iconst (v := (nI 0)) F.x F.cd dX3_minute_0 (by decide) ?_
  refine lv_istore_n (lv' := [(1, .int (nI 0)), (0, .ref m)]) F.x F.cd dX3_minute_1 rfl hl (by decide) rfl (fun ls hl => ?_)
  refine lv_aload_n F.x F.cd dX3_minute_2 rfl (lv_at hl 1 rfl) ?_
  refine s_get F hW (ci := 7) (C := RX3) (T := TX3) (N := 18) (v := .ref (A 0)) (t0) rfl in_X3 0 (by decide) q2279 (fun _ h9 => h9) rfl dX3_minute_3 ?_
  refine lv_iconst (v := (nI 2)) F.x F.cd dX3_minute_6 (by decide) ?_
  refine lv_dup2_11 F.x F.cd dX3_minute_7 rfl rfl ?_
  refine n_iald (i := 2) (n := 114) (f := (fun x9 => nI ((ar 0) x9))) (x := (nI (ar 0 2))) F hW (ta0) (by omega) (by omega) (rfl) dX3_minute_8 ?_
  refine lv_iconst (v := (nI 1)) F.x F.cd dX3_minute_9 (by decide) ?_
  refine a_iadd (v := (nI (ar 0 2 + 1))) F (nI_add _ _) dX3_minute_10 ?_
  refine n_iastN (i := 2) F hW (ta0) (tbb 0 (by decide)) (by omega) (by omega) dX3_minute_11 (fun H locs hW => ?_)
  obtain ⟨σ1, hσ1⟩ : ∃ z, z = sset σ (A 0) (eI g 0 114 (fun x9 => nI ((va_up (ar 0) 2 (ar 0 2 + 1)) x9))) := ⟨_, rfl⟩
  have hW : Hl g σ1 H locs := by rw [hσ1]; exact hW
  have w1 : σ1 (A 0) = some (eI g 0 114 (fun x9 => nI ((va_up (ar 0) 2 (ar 0 2 + 1)) x9))) := by rw [hσ1]; exact sset_eq
  have f2 : σ1 m = some (.inr (7, [.ref (A 0), .ref (A 1), .ref (A 2), .int (iv 3), .ref (A 3), .int (iv 5), .ref (A 4), .ref (A 5), .int (iv 8), .ref (A 6), .int (iv 10), .int (iv 11), .ref wd, .ref (A 7), .int (iv 14), .int (iv 15), .int (iv 16), .int (iv 17)])) := by rw [hσ1, sset_ne (sto_ne ta0 t0 (by simp))]; exact t0
  have f3 : σ1 (A 1) = some (eI g 0 114 (fun x9 => nI ((ar 1) x9))) := by rw [hσ1, sset_ne (fun q9 => absurd (tii 1 0 (by decide) (by decide) q9) (by decide))]; exact ta1
  have f4 : σ1 (A 2) = some (eI g 0 912 (fun x9 => nI ((ar 2) x9))) := by rw [hσ1, sset_ne (fun q9 => absurd (tii 2 0 (by decide) (by decide) q9) (by decide))]; exact ta2
  have f5 : σ1 (A 3) = some (eI g 0 114 (fun x9 => nI ((ar 3) x9))) := by rw [hσ1, sset_ne (fun q9 => absurd (tii 3 0 (by decide) (by decide) q9) (by decide))]; exact ta3
  have f6 : σ1 (A 4) = some (eI g 2 2048 (fun x9 => bI (rb x9))) := by rw [hσ1, sset_ne (fun q9 => absurd (tii 4 0 (by decide) (by decide) q9) (by decide))]; exact ta4
  have f7 : σ1 (A 5) = some (eI g 3 60 (fun x9 => nI ((ar 5) x9))) := by rw [hσ1, sset_ne (fun q9 => absurd (tii 5 0 (by decide) (by decide) q9) (by decide))]; exact ta5
  have f8 : σ1 (A 6) = some (eI g 3 60 (fun x9 => nI ((ar 6) x9))) := by rw [hσ1, sset_ne (fun q9 => absurd (tii 6 0 (by decide) (by decide) q9) (by decide))]; exact ta6
  have f9 : σ1 (A 7) = some (eI g 0 3 (fun x9 => nI ((ar 7) x9))) := by rw [hσ1, sset_ne (fun q9 => absurd (tii 7 0 (by decide) (by decide) q9) (by decide))]; exact ta7
  have tw10 : IsTw g σ1 m A iv wd (va_up ar 0 (va_up (ar 0) 2 (ar 0 2 + 1))) rb := ⟨f2, tb0, w1, f3, f4, f5, f6, f7, f8, f9, tbb, tii⟩
  have fm10 : Fm σ σ1 m A := by rw [hσ1]; exact (Fm.refl).setA 0 (by decide)
  have tw_11 : IsTw g σ1 m A iv wd (va_up ar 0 (flowsN (ar 0) 0)) rb := by
    rw [← flowsN_z]
    exact ⟨f2, tb0, w1, f3, f4, f5, f6, f7, f8, f9, tbb, tii⟩
  obtain ⟨t0_11, -, ta0_11, ta1_11, ta2_11, ta3_11, ta4_11, ta5_11, ta6_11, ta7_11, -, -⟩ := id tw_11
  refine lv_iconst (v := (nI 0)) F.x F.cd dX3_minute_12 (by decide) ?_
  refine lv_istore_n (lv' := [(2, .int (nI 0)), (1, .int (nI 0)), (0, .ref m)]) F.x F.cd dX3_minute_13 rfl hl (by decide) rfl (fun ls hl => ?_)
  have loop14 : ∀ (nk : Nat) (k : Nat) (σk : Sto) , k + nk = ar 0 1 → IsTw g σk m A iv wd (va_up ar 0 (flowsN (ar 0) k)) rb → Fm σ σk m A → ∀ (H : Heap) (locs : List Loc) (ls : Array Slot), Hl g σk H locs → lv_has ls 9 [(0, .ref m), (1, .int (nI (flN (ar 0) k))), (2, .int (nI k))] → W p_ l e_ ({ frames := 3, cells := 0, slots := 0, locals := 69 } : Room) s_ m_ args_ below_ meth_ c_ H locs 0 0 Q (F0 m_ 14 ls ([])) := by
    intro nk
    induction nk with
    | zero =>
      intro k σk  hknk twk fmk H locs ls hW hl
      obtain ⟨t0_k12, -, ta0_k12, ta1_k12, ta2_k12, ta3_k12, ta4_k12, ta5_k12, ta6_k12, ta7_k12, -, -⟩ := id twk
      have hIk := inv_flowsN hI k (by omega)
      have z0 : (flowsN (ar 0) k) 0 = ar 0 0 := flowsN_0 (by omega)
      have z1 : (flowsN (ar 0) k) 1 = ar 0 1 := flowsN_0 (by omega)
      have hf0 := flN_le hI k (by omega)
      refine lv_iload_n F.x F.cd dX3_minute_14 rfl (lv_at hl 2 rfl) ?_
      refine lv_aload_n F.x F.cd dX3_minute_15 rfl (lv_at hl 0 rfl) ?_
      refine s_get F hW (ci := 7) (C := RX3) (T := TX3) (N := 18) (v := .ref (A 0)) (t0_k12) rfl in_X3 0 (by decide) q2279 (fun _ h9 => h9) rfl dX3_minute_16 ?_
      refine lv_iconst (v := (nI 1)) F.x F.cd dX3_minute_19 (by decide) ?_
      refine n_iald (i := 1) (n := 114) (f := (fun x9 => nI ((flowsN (ar 0) k) x9))) (x := (nI (ar 0 1))) F hW (ta0_k12) (by omega) (by omega) (by show nI _ = nI _; rw [z1]) dX3_minute_20 ?_
      refine n_icmp_ge (a := k) (b := ar 0 1) (tgt := 261) F (by omega) (by omega) dX3_minute_21 (by decide) (fun c_21 => ?_) (fun c_21 => ?_)
      · have tw_13 : IsTw g σk m A iv wd (va_up ar 0 (minv (ar 0))) rb := by
          rw [minv, ← show k = ar 0 1 by omega]
          exact ⟨t0_k12, tb0, ta0_k12, ta1_k12, ta2_k12, ta3_k12, ta4_k12, ta5_k12, ta6_k12, ta7_k12, tbb, tii⟩
        obtain ⟨t0_13, -, ta0_13, ta1_13, ta2_13, ta3_13, ta4_13, ta5_13, ta6_13, ta7_13, -, -⟩ := id tw_13
        refine lv_iload_n F.x F.cd dX3_minute_261 rfl (lv_at hl 1 rfl) ?_
        subst hQ
        exact s_reti (v := (nI (flN (ar 0) k))) F hW rfl (⟨by rw [show k = ar 0 1 by omega], tw_13, fmk⟩) ⟨(Nat.le_of_ble_eq_true rfl), (Nat.le_of_ble_eq_true rfl)⟩ dX3_minute_262
      · exact absurd c_21 (by omega)
    | succ nk ih14 =>
      intro k σk  hknk twk fmk H locs ls hW hl
      obtain ⟨t0_k12, -, ta0_k12, ta1_k12, ta2_k12, ta3_k12, ta4_k12, ta5_k12, ta6_k12, ta7_k12, -, -⟩ := id twk
      have hIk := inv_flowsN hI k (by omega)
      have z0 : (flowsN (ar 0) k) 0 = ar 0 0 := flowsN_0 (by omega)
      have z1 : (flowsN (ar 0) k) 1 = ar 0 1 := flowsN_0 (by omega)
      have hf0 := flN_le hI k (by omega)
      refine lv_iload_n F.x F.cd dX3_minute_14 rfl (lv_at hl 2 rfl) ?_
      refine lv_aload_n F.x F.cd dX3_minute_15 rfl (lv_at hl 0 rfl) ?_
      refine s_get F hW (ci := 7) (C := RX3) (T := TX3) (N := 18) (v := .ref (A 0)) (t0_k12) rfl in_X3 0 (by decide) q2279 (fun _ h9 => h9) rfl dX3_minute_16 ?_
      refine lv_iconst (v := (nI 1)) F.x F.cd dX3_minute_19 (by decide) ?_
      refine n_iald (i := 1) (n := 114) (f := (fun x9 => nI ((flowsN (ar 0) k) x9))) (x := (nI (ar 0 1))) F hW (ta0_k12) (by omega) (by omega) (by show nI _ = nI _; rw [z1]) dX3_minute_20 ?_
      refine n_icmp_ge (a := k) (b := ar 0 1) (tgt := 261) F (by omega) (by omega) dX3_minute_21 (by decide) (fun c_21 => ?_) (fun c_21 => ?_)
      · exact absurd c_21 (by omega)
      · have hkq : k < (flowsN (ar 0) k) 1 := by rw [z1]; omega
        refine lv_aload_n F.x F.cd dX3_minute_24 rfl (lv_at hl 0 rfl) ?_
        refine lv_iload_n F.x F.cd dX3_minute_25 rfl (lv_at hl 2 rfl) ?_
        refine s_callV (As := [.int (nI k)]) (rest := []) (C := RX3) (T := TX3) (N := 18) (n := 1) F hW (k_X3_flows g l σk m A _ _ _ _ k twk hIk hkq) (t0_k12) rfl q2430 q2432 qs47 q79 q2433 rfl (by decide +kernel) rfl ⟨⟨Nat.le_of_ble_eq_true rfl, Nat.le_of_ble_eq_true rfl⟩, ⟨(Nat.le_of_ble_eq_true rfl), (Nat.le_of_ble_eq_true rfl)⟩⟩ (Nat.le_of_ble_eq_true rfl) hl.1 rfl dX3_minute_26 cX_no (fun r14 σ14 H locs hp14 hW => ?_)
        obtain ⟨rfl, hs14⟩ := hp14
        rw [hs14] at hW
        refine W.eq (g2 := F0 m_ 29 ls (.int (lits (flowsN (ar 0) k) k) :: [])) rfl ?_
        refine lv_istore_n (lv' := [(3, .int (lits (flowsN (ar 0) k) k)), (0, .ref m), (1, .int (nI (flN (ar 0) k))), (2, .int (nI k))]) F.x F.cd dX3_minute_29 rfl hl (by decide) rfl (fun ls hl => ?_)
        refine lv_iload_n F.x F.cd dX3_minute_30 rfl (lv_at hl 0 rfl) ?_
        refine lv_if_ne (x := (lits (flowsN (ar 0) k) k)) (tgt := 37) F.x F.cd dX3_minute_31 (by decide) (fun c_31 => ?_) (fun c_31 => ?_)
        · have hlp : 0 < lit (flowsN (ar 0) k) k := by have h9 := lits_0 hIk hkq; have h8 : lit (flowsN (ar 0) k) k ≠ 0 := fun h7 => c_31 (h9.mpr h7); omega
          obtain ⟨hqa, hqb, hqab, hqm, hqv, hqr, hqd⟩ := hIk.pp hkq
          obtain ⟨hac, hac2, hak, hai⟩ := hIk.tk hqa
          obtain ⟨hbc, hbc2, hbk, hbi⟩ := hIk.tk hqb
          have hv0k := hIk.1
          have hl20 := lit_le hIk hkq
          have hlb := lit_bd hlp
          by_cases hf : tK (flowsN (ar 0) k) (pB (flowsN (ar 0) k) k) < tK (flowsN (ar 0) k) (pA (flowsN (ar 0) k) k)
          · have hs : srcv (flowsN (ar 0) k) k = (pA (flowsN (ar 0) k) k) := if_pos hf
            have hd : dstv (flowsN (ar 0) k) k = (pB (flowsN (ar 0) k) k) := if_pos hf
            rw [hs, hd] at hlb
            have hp8 := pops_lt (tI (flowsN (ar 0) k) (pA (flowsN (ar 0) k) k) &&& pM (flowsN (ar 0) k) k) (Nat.lt_of_le_of_lt Nat.and_le_left (by omega))
            have hl : lv_has ls 9 [(3, .int (nI (lit (flowsN (ar 0) k) k))), (0, .ref m), (1, .int (nI (flN (ar 0) k))), (2, .int (nI k))] := by rw [← show lits (flowsN (ar 0) k) k = nI (lit (flowsN (ar 0) k) k) from if_pos hf]; exact hl
            refine lv_bipush (v := (nI 6)) F.x F.cd dX3_minute_37 (by decide) ?_
            refine lv_iconst (v := (nI 3)) F.x F.cd dX3_minute_39 (by decide) ?_
            refine lv_aload_n F.x F.cd dX3_minute_40 rfl (lv_at hl 1 rfl) ?_
            refine lv_iload_n F.x F.cd dX3_minute_41 rfl (lv_at hl 3 rfl) ?_
            refine lv_iload_n F.x F.cd dX3_minute_42 rfl (lv_at hl 0 rfl) ?_
            refine n_if_le (a := lit (flowsN (ar 0) k) k) (tgt := 50) F (by omega) dX3_minute_43 (by decide) (fun c_43 => ?_) (fun c_43 => ?_)
            · exact absurd c_43 (by omega)
            · refine lv_iconst (v := (nI 0)) F.x F.cd dX3_minute_46 (by decide) ?_
              refine lv_goto (tgt := 51) F.x F.cd dX3_minute_47 (by decide) ?_
              refine s_callV (As := [.int (nI k), .int (nI 0)]) (rest := [.int (nI 3), .int (nI 6)]) (C := RX3) (T := TX3) (N := 18) (n := 2) F hW (k_X3_pipe g l σk m A _ _ _ _ k 0 twk (by omega) (by omega)) (t0_k12) rfl q2406 q2408 qs44 q79 q2409 rfl (by decide +kernel) rfl ⟨⟨Nat.le_of_ble_eq_true rfl, Nat.le_of_ble_eq_true rfl⟩, ⟨(Nat.le_of_ble_eq_true rfl), (Nat.le_of_ble_eq_true rfl)⟩⟩ (Nat.le_of_ble_eq_true rfl) hl.1 rfl dX3_minute_51 cX_no (fun r15 σ15 H locs hp15 hW => ?_)
              obtain ⟨rfl, hs15⟩ := hp15
              rw [hs15] at hW
              refine W.eq (g2 := F0 m_ 54 ls (.int (nI (pA (flowsN (ar 0) k) k)) :: .int (nI 3) :: .int (nI 6) :: [])) rfl ?_
              refine a_imul (v := (nI (3 * (pA (flowsN (ar 0) k) k)))) F (pk_mul _ _) dX3_minute_54 ?_
              refine a_iadd (v := (nI (6 + (3 * (pA (flowsN (ar 0) k) k))))) F (nI_add _ _) dX3_minute_55 ?_
              refine lv_istore (lv' := [(4, .int (nI (6 + (3 * (pA (flowsN (ar 0) k) k))))), (3, .int (nI (lit (flowsN (ar 0) k) k))), (0, .ref m), (1, .int (nI (flN (ar 0) k))), (2, .int (nI k))]) F.x F.cd dX3_minute_56 hl (by decide) rfl (fun ls hl => ?_)
              refine lv_bipush (v := (nI 6)) F.x F.cd dX3_minute_58 (by decide) ?_
              refine lv_iconst (v := (nI 3)) F.x F.cd dX3_minute_60 (by decide) ?_
              refine lv_aload_n F.x F.cd dX3_minute_61 rfl (lv_at hl 2 rfl) ?_
              refine lv_iload_n F.x F.cd dX3_minute_62 rfl (lv_at hl 4 rfl) ?_
              refine lv_iload_n F.x F.cd dX3_minute_63 rfl (lv_at hl 1 rfl) ?_
              refine n_if_le (a := lit (flowsN (ar 0) k) k) (tgt := 71) F (by omega) dX3_minute_64 (by decide) (fun c_64 => ?_) (fun c_64 => ?_)
              · exact absurd c_64 (by omega)
              · refine lv_iconst (v := (nI 1)) F.x F.cd dX3_minute_67 (by decide) ?_
                refine lv_goto (tgt := 72) F.x F.cd dX3_minute_68 (by decide) ?_
                refine s_callV (As := [.int (nI k), .int (nI 1)]) (rest := [.int (nI 3), .int (nI 6)]) (C := RX3) (T := TX3) (N := 18) (n := 2) F hW (k_X3_pipe g l σk m A _ _ _ _ k 1 twk (by omega) (by omega)) (t0_k12) rfl q2406 q2408 qs44 q79 q2409 rfl (by decide +kernel) rfl ⟨⟨Nat.le_of_ble_eq_true rfl, Nat.le_of_ble_eq_true rfl⟩, ⟨(Nat.le_of_ble_eq_true rfl), (Nat.le_of_ble_eq_true rfl)⟩⟩ (Nat.le_of_ble_eq_true rfl) hl.1 rfl dX3_minute_72 cX_no (fun r16 σ16 H locs hp16 hW => ?_)
                obtain ⟨rfl, hs16⟩ := hp16
                rw [hs16] at hW
                refine W.eq (g2 := F0 m_ 75 ls (.int (nI (pB (flowsN (ar 0) k) k)) :: .int (nI 3) :: .int (nI 6) :: [])) rfl ?_
                refine a_imul (v := (nI (3 * (pB (flowsN (ar 0) k) k)))) F (pk_mul _ _) dX3_minute_75 ?_
                refine a_iadd (v := (nI (6 + (3 * (pB (flowsN (ar 0) k) k))))) F (nI_add _ _) dX3_minute_76 ?_
                refine lv_istore (lv' := [(5, .int (nI (6 + (3 * (pB (flowsN (ar 0) k) k))))), (4, .int (nI (6 + (3 * (pA (flowsN (ar 0) k) k))))), (3, .int (nI (lit (flowsN (ar 0) k) k))), (0, .ref m), (1, .int (nI (flN (ar 0) k))), (2, .int (nI k))]) F.x F.cd dX3_minute_77 hl (by decide) rfl (fun ls hl => ?_)
                refine lv_iload_n F.x F.cd dX3_minute_79 rfl (lv_at hl 2 rfl) ?_
                refine s_mabs (v := (nI (lit (flowsN (ar 0) k) k))) F q2442 q2443 q87 q2444 hl.1 (Nat.le_of_ble_eq_true rfl) (Nat.le_of_ble_eq_true rfl) (Nat.le_of_ble_eq_true rfl) (Nat.le_of_ble_eq_true rfl) (if_pos (nI_pos' (by omega))) dX3_minute_80 ?_
                refine lv_istore (lv' := [(6, .int (nI (lit (flowsN (ar 0) k) k))), (5, .int (nI (6 + (3 * (pB (flowsN (ar 0) k) k))))), (4, .int (nI (6 + (3 * (pA (flowsN (ar 0) k) k))))), (3, .int (nI (lit (flowsN (ar 0) k) k))), (0, .ref m), (1, .int (nI (flN (ar 0) k))), (2, .int (nI k))]) F.x F.cd dX3_minute_83 hl (by decide) rfl (fun ls hl => ?_)
                refine lv_iload F.x F.cd dX3_minute_85 (lv_at hl 0 rfl) ?_
                refine lv_aload_n F.x F.cd dX3_minute_87 rfl (lv_at hl 4 rfl) ?_
                refine lv_iload_n F.x F.cd dX3_minute_88 rfl (lv_at hl 6 rfl) ?_
                refine lv_iconst (v := (nI 4)) F.x F.cd dX3_minute_89 (by decide) ?_
                refine s_callV (As := [.int (nI k), .int (nI 4)]) (rest := [.int (nI (lit (flowsN (ar 0) k) k))]) (C := RX3) (T := TX3) (N := 18) (n := 2) F hW (k_X3_pipe g l σk m A _ _ _ _ k 4 twk (by omega) (by omega)) (t0_k12) rfl q2406 q2408 qs44 q79 q2409 rfl (by decide +kernel) rfl ⟨⟨Nat.le_of_ble_eq_true rfl, Nat.le_of_ble_eq_true rfl⟩, ⟨(Nat.le_of_ble_eq_true rfl), (Nat.le_of_ble_eq_true rfl)⟩⟩ (Nat.le_of_ble_eq_true rfl) hl.1 rfl dX3_minute_90 cX_no (fun r17 σ17 H locs hp17 hW => ?_)
                obtain ⟨rfl, hs17⟩ := hp17
                rw [hs17] at hW
                refine W.eq (g2 := F0 m_ 93 ls (.int (nI (pR (flowsN (ar 0) k) k)) :: .int (nI (lit (flowsN (ar 0) k) k)) :: [])) rfl ?_
                refine s_mmin (v := (nI (min (lit (flowsN (ar 0) k) k) (pR (flowsN (ar 0) k) k)))) F q2445 q453 q87 q454 hl.1 (Nat.le_of_ble_eq_true rfl) (Nat.le_of_ble_eq_true rfl) (Nat.le_of_ble_eq_true rfl) (Nat.le_of_ble_eq_true rfl) (nI_min (by omega) (by omega)) dX3_minute_93 ?_
                refine lv_istore (lv' := [(7, .int (nI (min (lit (flowsN (ar 0) k) k) (pR (flowsN (ar 0) k) k)))), (6, .int (nI (lit (flowsN (ar 0) k) k))), (5, .int (nI (6 + (3 * (pB (flowsN (ar 0) k) k))))), (4, .int (nI (6 + (3 * (pA (flowsN (ar 0) k) k))))), (3, .int (nI (lit (flowsN (ar 0) k) k))), (0, .ref m), (1, .int (nI (flN (ar 0) k))), (2, .int (nI k))]) F.x F.cd dX3_minute_96 hl (by decide) rfl (fun ls hl => ?_)
                refine lv_bipush (v := (nI 30)) F.x F.cd dX3_minute_98 (by decide) ?_
                refine lv_bipush (v := (nI 7)) F.x F.cd dX3_minute_100 (by decide) ?_
                refine lv_iload_n F.x F.cd dX3_minute_102 rfl (lv_at hl 7 rfl) ?_
                refine a_imul (v := (nI (7 * k))) F (pk_mul _ _) dX3_minute_103 ?_
                refine a_iadd (v := (nI (30 + (7 * k)))) F (nI_add _ _) dX3_minute_104 ?_
                refine lv_istore (lv' := [(8, .int (nI (30 + (7 * k)))), (7, .int (nI (min (lit (flowsN (ar 0) k) k) (pR (flowsN (ar 0) k) k)))), (6, .int (nI (lit (flowsN (ar 0) k) k))), (5, .int (nI (6 + (3 * (pB (flowsN (ar 0) k) k))))), (4, .int (nI (6 + (3 * (pA (flowsN (ar 0) k) k))))), (3, .int (nI (lit (flowsN (ar 0) k) k))), (0, .ref m), (1, .int (nI (flN (ar 0) k))), (2, .int (nI k))]) F.x F.cd dX3_minute_105 hl (by decide) rfl (fun ls hl => ?_)
                refine lv_aload_n F.x F.cd dX3_minute_107 rfl (lv_at hl 6 rfl) ?_
                refine s_get F hW (ci := 7) (C := RX3) (T := TX3) (N := 18) (v := .ref (A 0)) (t0_k12) rfl in_X3 0 (by decide) q2279 (fun _ h9 => h9) rfl dX3_minute_108 ?_
                refine lv_iload F.x F.cd dX3_minute_111 (lv_at hl 4 rfl) ?_
                refine lv_iconst (v := (nI 1)) F.x F.cd dX3_minute_113 (by decide) ?_
                refine a_iadd (v := (nI (6 + (3 * (pA (flowsN (ar 0) k) k)) + 1))) F (nI_add _ _) dX3_minute_114 ?_
                refine lv_dup2_11 F.x F.cd dX3_minute_115 rfl rfl ?_
                refine n_iald (i := 6 + (3 * (pA (flowsN (ar 0) k) k)) + 1) (n := 114) (f := (fun x9 => nI ((flowsN (ar 0) k) x9))) (x := (nI (tK (flowsN (ar 0) k) (pA (flowsN (ar 0) k) k)))) F hW (ta0_k12) (by omega) (by omega) (rfl) dX3_minute_116 ?_
                refine lv_iload F.x F.cd dX3_minute_117 (lv_at hl 2 rfl) ?_
                refine a_isub (v := (nI (tK (flowsN (ar 0) k) (pA (flowsN (ar 0) k) k) - (lit (flowsN (ar 0) k) k)))) F (pk_sub (by omega)) dX3_minute_119 ?_
                refine n_iastN (i := 6 + (3 * (pA (flowsN (ar 0) k) k)) + 1) F hW (ta0_k12) (tbb 0 (by decide)) (by omega) (by omega) dX3_minute_120 (fun H locs hW => ?_)
                obtain ⟨σ18, hσ18⟩ : ∃ z, z = sset σk (A 0) (eI g 0 114 (fun x9 => nI ((va_up (flowsN (ar 0) k) (6 + (3 * (pA (flowsN (ar 0) k) k)) + 1) (tK (flowsN (ar 0) k) (pA (flowsN (ar 0) k) k) - (lit (flowsN (ar 0) k) k))) x9))) := ⟨_, rfl⟩
                have hW : Hl g σ18 H locs := by rw [hσ18]; exact hW
                have w18 : σ18 (A 0) = some (eI g 0 114 (fun x9 => nI ((va_up (flowsN (ar 0) k) (6 + (3 * (pA (flowsN (ar 0) k) k)) + 1) (tK (flowsN (ar 0) k) (pA (flowsN (ar 0) k) k) - (lit (flowsN (ar 0) k) k))) x9))) := by rw [hσ18]; exact sset_eq
                have f19 : σ18 m = some (.inr (7, [.ref (A 0), .ref (A 1), .ref (A 2), .int (iv 3), .ref (A 3), .int (iv 5), .ref (A 4), .ref (A 5), .int (iv 8), .ref (A 6), .int (iv 10), .int (iv 11), .ref wd, .ref (A 7), .int (iv 14), .int (iv 15), .int (iv 16), .int (iv 17)])) := by rw [hσ18, sset_ne (sto_ne ta0_k12 t0_k12 (by simp))]; exact t0_k12
                have f20 : σ18 (A 1) = some (eI g 0 114 (fun x9 => nI ((ar 1) x9))) := by rw [hσ18, sset_ne (fun q9 => absurd (tii 1 0 (by decide) (by decide) q9) (by decide))]; exact ta1_k12
                have f21 : σ18 (A 2) = some (eI g 0 912 (fun x9 => nI ((ar 2) x9))) := by rw [hσ18, sset_ne (fun q9 => absurd (tii 2 0 (by decide) (by decide) q9) (by decide))]; exact ta2_k12
                have f22 : σ18 (A 3) = some (eI g 0 114 (fun x9 => nI ((ar 3) x9))) := by rw [hσ18, sset_ne (fun q9 => absurd (tii 3 0 (by decide) (by decide) q9) (by decide))]; exact ta3_k12
                have f23 : σ18 (A 4) = some (eI g 2 2048 (fun x9 => bI (rb x9))) := by rw [hσ18, sset_ne (fun q9 => absurd (tii 4 0 (by decide) (by decide) q9) (by decide))]; exact ta4_k12
                have f24 : σ18 (A 5) = some (eI g 3 60 (fun x9 => nI ((ar 5) x9))) := by rw [hσ18, sset_ne (fun q9 => absurd (tii 5 0 (by decide) (by decide) q9) (by decide))]; exact ta5_k12
                have f25 : σ18 (A 6) = some (eI g 3 60 (fun x9 => nI ((ar 6) x9))) := by rw [hσ18, sset_ne (fun q9 => absurd (tii 6 0 (by decide) (by decide) q9) (by decide))]; exact ta6_k12
                have f26 : σ18 (A 7) = some (eI g 0 3 (fun x9 => nI ((ar 7) x9))) := by rw [hσ18, sset_ne (fun q9 => absurd (tii 7 0 (by decide) (by decide) q9) (by decide))]; exact ta7_k12
                refine lv_aload_n F.x F.cd dX3_minute_121 rfl (lv_at hl 6 rfl) ?_
                refine s_get F hW (ci := 7) (C := RX3) (T := TX3) (N := 18) (v := .ref (A 0)) (f19) rfl in_X3 0 (by decide) q2279 (fun _ h9 => h9) rfl dX3_minute_122 ?_
                refine lv_iload F.x F.cd dX3_minute_125 (lv_at hl 3 rfl) ?_
                refine lv_iconst (v := (nI 1)) F.x F.cd dX3_minute_127 (by decide) ?_
                refine a_iadd (v := (nI (6 + (3 * (pB (flowsN (ar 0) k) k)) + 1))) F (nI_add _ _) dX3_minute_128 ?_
                refine lv_dup2_11 F.x F.cd dX3_minute_129 rfl rfl ?_
                refine n_iald (i := 6 + (3 * (pB (flowsN (ar 0) k) k)) + 1) (n := 114) (f := (fun x9 => nI ((va_up (flowsN (ar 0) k) (6 + (3 * (pA (flowsN (ar 0) k) k)) + 1) (tK (flowsN (ar 0) k) (pA (flowsN (ar 0) k) k) - (lit (flowsN (ar 0) k) k))) x9))) (x := (nI (tK (flowsN (ar 0) k) (pB (flowsN (ar 0) k) k)))) F hW (w18) (by omega) (by omega) (by show nI _ = nI _; rw [va_up_ne _ _ (by omega)]) dX3_minute_130 ?_
                refine lv_iload F.x F.cd dX3_minute_131 (lv_at hl 2 rfl) ?_
                refine lv_iload F.x F.cd dX3_minute_133 (lv_at hl 1 rfl) ?_
                refine a_isub (v := (nI (lit (flowsN (ar 0) k) k - (min (lit (flowsN (ar 0) k) k) (pR (flowsN (ar 0) k) k))))) F (pk_sub (by omega)) dX3_minute_135 ?_
                refine a_iadd (v := (nI (tK (flowsN (ar 0) k) (pB (flowsN (ar 0) k) k) + (lit (flowsN (ar 0) k) k - (min (lit (flowsN (ar 0) k) k) (pR (flowsN (ar 0) k) k)))))) F (nI_add _ _) dX3_minute_136 ?_
                refine n_iastN (i := 6 + (3 * (pB (flowsN (ar 0) k) k)) + 1) F hW (w18) (tbb 0 (by decide)) (by omega) (by omega) dX3_minute_137 (fun H locs hW => ?_)
                obtain ⟨σ27, hσ27⟩ : ∃ z, z = sset σ18 (A 0) (eI g 0 114 (fun x9 => nI ((va_up (va_up (flowsN (ar 0) k) (6 + (3 * (pA (flowsN (ar 0) k) k)) + 1) (tK (flowsN (ar 0) k) (pA (flowsN (ar 0) k) k) - (lit (flowsN (ar 0) k) k))) (6 + (3 * (pB (flowsN (ar 0) k) k)) + 1) (tK (flowsN (ar 0) k) (pB (flowsN (ar 0) k) k) + (lit (flowsN (ar 0) k) k - (min (lit (flowsN (ar 0) k) k) (pR (flowsN (ar 0) k) k))))) x9))) := ⟨_, rfl⟩
                have hW : Hl g σ27 H locs := by rw [hσ27]; exact hW
                have w27 : σ27 (A 0) = some (eI g 0 114 (fun x9 => nI ((va_up (va_up (flowsN (ar 0) k) (6 + (3 * (pA (flowsN (ar 0) k) k)) + 1) (tK (flowsN (ar 0) k) (pA (flowsN (ar 0) k) k) - (lit (flowsN (ar 0) k) k))) (6 + (3 * (pB (flowsN (ar 0) k) k)) + 1) (tK (flowsN (ar 0) k) (pB (flowsN (ar 0) k) k) + (lit (flowsN (ar 0) k) k - (min (lit (flowsN (ar 0) k) k) (pR (flowsN (ar 0) k) k))))) x9))) := by rw [hσ27]; exact sset_eq
                have f28 : σ27 m = some (.inr (7, [.ref (A 0), .ref (A 1), .ref (A 2), .int (iv 3), .ref (A 3), .int (iv 5), .ref (A 4), .ref (A 5), .int (iv 8), .ref (A 6), .int (iv 10), .int (iv 11), .ref wd, .ref (A 7), .int (iv 14), .int (iv 15), .int (iv 16), .int (iv 17)])) := by rw [hσ27, sset_ne (sto_ne w18 f19 (by simp))]; exact f19
                have f29 : σ27 (A 1) = some (eI g 0 114 (fun x9 => nI ((ar 1) x9))) := by rw [hσ27, sset_ne (fun q9 => absurd (tii 1 0 (by decide) (by decide) q9) (by decide))]; exact f20
                have f30 : σ27 (A 2) = some (eI g 0 912 (fun x9 => nI ((ar 2) x9))) := by rw [hσ27, sset_ne (fun q9 => absurd (tii 2 0 (by decide) (by decide) q9) (by decide))]; exact f21
                have f31 : σ27 (A 3) = some (eI g 0 114 (fun x9 => nI ((ar 3) x9))) := by rw [hσ27, sset_ne (fun q9 => absurd (tii 3 0 (by decide) (by decide) q9) (by decide))]; exact f22
                have f32 : σ27 (A 4) = some (eI g 2 2048 (fun x9 => bI (rb x9))) := by rw [hσ27, sset_ne (fun q9 => absurd (tii 4 0 (by decide) (by decide) q9) (by decide))]; exact f23
                have f33 : σ27 (A 5) = some (eI g 3 60 (fun x9 => nI ((ar 5) x9))) := by rw [hσ27, sset_ne (fun q9 => absurd (tii 5 0 (by decide) (by decide) q9) (by decide))]; exact f24
                have f34 : σ27 (A 6) = some (eI g 3 60 (fun x9 => nI ((ar 6) x9))) := by rw [hσ27, sset_ne (fun q9 => absurd (tii 6 0 (by decide) (by decide) q9) (by decide))]; exact f25
                have f35 : σ27 (A 7) = some (eI g 0 3 (fun x9 => nI ((ar 7) x9))) := by rw [hσ27, sset_ne (fun q9 => absurd (tii 7 0 (by decide) (by decide) q9) (by decide))]; exact f26
                refine lv_aload_n F.x F.cd dX3_minute_138 rfl (lv_at hl 6 rfl) ?_
                refine s_get F hW (ci := 7) (C := RX3) (T := TX3) (N := 18) (v := .ref (A 0)) (f28) rfl in_X3 0 (by decide) q2279 (fun _ h9 => h9) rfl dX3_minute_139 ?_
                refine lv_iconst (v := (nI 5)) F.x F.cd dX3_minute_142 (by decide) ?_
                refine lv_dup2_11 F.x F.cd dX3_minute_143 rfl rfl ?_
                refine n_iald (i := 5) (n := 114) (f := (fun x9 => nI ((va_up (va_up (flowsN (ar 0) k) (6 + (3 * (pA (flowsN (ar 0) k) k)) + 1) (tK (flowsN (ar 0) k) (pA (flowsN (ar 0) k) k) - (lit (flowsN (ar 0) k) k))) (6 + (3 * (pB (flowsN (ar 0) k) k)) + 1) (tK (flowsN (ar 0) k) (pB (flowsN (ar 0) k) k) + (lit (flowsN (ar 0) k) k - (min (lit (flowsN (ar 0) k) k) (pR (flowsN (ar 0) k) k))))) x9))) (x := (nI ((flowsN (ar 0) k) 5))) F hW (w27) (by omega) (by omega) (by show nI _ = nI _; rw [va_up_ne _ _ (by omega), va_up_ne _ _ (by omega)]) dX3_minute_144 ?_
                refine lv_iload F.x F.cd dX3_minute_145 (lv_at hl 1 rfl) ?_
                refine a_iadd (v := (nI ((flowsN (ar 0) k) 5 + (min (lit (flowsN (ar 0) k) k) (pR (flowsN (ar 0) k) k))))) F (nI_add _ _) dX3_minute_147 ?_
                refine n_iastN (i := 5) F hW (w27) (tbb 0 (by decide)) (by omega) (by omega) dX3_minute_148 (fun H locs hW => ?_)
                obtain ⟨σ36, hσ36⟩ : ∃ z, z = sset σ27 (A 0) (eI g 0 114 (fun x9 => nI ((va_up (va_up (va_up (flowsN (ar 0) k) (6 + (3 * (pA (flowsN (ar 0) k) k)) + 1) (tK (flowsN (ar 0) k) (pA (flowsN (ar 0) k) k) - (lit (flowsN (ar 0) k) k))) (6 + (3 * (pB (flowsN (ar 0) k) k)) + 1) (tK (flowsN (ar 0) k) (pB (flowsN (ar 0) k) k) + (lit (flowsN (ar 0) k) k - (min (lit (flowsN (ar 0) k) k) (pR (flowsN (ar 0) k) k))))) 5 ((flowsN (ar 0) k) 5 + (min (lit (flowsN (ar 0) k) k) (pR (flowsN (ar 0) k) k)))) x9))) := ⟨_, rfl⟩
                have hW : Hl g σ36 H locs := by rw [hσ36]; exact hW
                have w36 : σ36 (A 0) = some (eI g 0 114 (fun x9 => nI ((va_up (va_up (va_up (flowsN (ar 0) k) (6 + (3 * (pA (flowsN (ar 0) k) k)) + 1) (tK (flowsN (ar 0) k) (pA (flowsN (ar 0) k) k) - (lit (flowsN (ar 0) k) k))) (6 + (3 * (pB (flowsN (ar 0) k) k)) + 1) (tK (flowsN (ar 0) k) (pB (flowsN (ar 0) k) k) + (lit (flowsN (ar 0) k) k - (min (lit (flowsN (ar 0) k) k) (pR (flowsN (ar 0) k) k))))) 5 ((flowsN (ar 0) k) 5 + (min (lit (flowsN (ar 0) k) k) (pR (flowsN (ar 0) k) k)))) x9))) := by rw [hσ36]; exact sset_eq
                have f37 : σ36 m = some (.inr (7, [.ref (A 0), .ref (A 1), .ref (A 2), .int (iv 3), .ref (A 3), .int (iv 5), .ref (A 4), .ref (A 5), .int (iv 8), .ref (A 6), .int (iv 10), .int (iv 11), .ref wd, .ref (A 7), .int (iv 14), .int (iv 15), .int (iv 16), .int (iv 17)])) := by rw [hσ36, sset_ne (sto_ne w27 f28 (by simp))]; exact f28
                have f38 : σ36 (A 1) = some (eI g 0 114 (fun x9 => nI ((ar 1) x9))) := by rw [hσ36, sset_ne (fun q9 => absurd (tii 1 0 (by decide) (by decide) q9) (by decide))]; exact f29
                have f39 : σ36 (A 2) = some (eI g 0 912 (fun x9 => nI ((ar 2) x9))) := by rw [hσ36, sset_ne (fun q9 => absurd (tii 2 0 (by decide) (by decide) q9) (by decide))]; exact f30
                have f40 : σ36 (A 3) = some (eI g 0 114 (fun x9 => nI ((ar 3) x9))) := by rw [hσ36, sset_ne (fun q9 => absurd (tii 3 0 (by decide) (by decide) q9) (by decide))]; exact f31
                have f41 : σ36 (A 4) = some (eI g 2 2048 (fun x9 => bI (rb x9))) := by rw [hσ36, sset_ne (fun q9 => absurd (tii 4 0 (by decide) (by decide) q9) (by decide))]; exact f32
                have f42 : σ36 (A 5) = some (eI g 3 60 (fun x9 => nI ((ar 5) x9))) := by rw [hσ36, sset_ne (fun q9 => absurd (tii 5 0 (by decide) (by decide) q9) (by decide))]; exact f33
                have f43 : σ36 (A 6) = some (eI g 3 60 (fun x9 => nI ((ar 6) x9))) := by rw [hσ36, sset_ne (fun q9 => absurd (tii 6 0 (by decide) (by decide) q9) (by decide))]; exact f34
                have f44 : σ36 (A 7) = some (eI g 0 3 (fun x9 => nI ((ar 7) x9))) := by rw [hσ36, sset_ne (fun q9 => absurd (tii 7 0 (by decide) (by decide) q9) (by decide))]; exact f35
                refine lv_aload_n F.x F.cd dX3_minute_149 rfl (lv_at hl 6 rfl) ?_
                refine s_get F hW (ci := 7) (C := RX3) (T := TX3) (N := 18) (v := .ref (A 0)) (f37) rfl in_X3 0 (by decide) q2279 (fun _ h9 => h9) rfl dX3_minute_150 ?_
                refine lv_iload F.x F.cd dX3_minute_153 (lv_at hl 0 rfl) ?_
                refine lv_bipush (v := (nI 6)) F.x F.cd dX3_minute_155 (by decide) ?_
                refine a_iadd (v := (nI (30 + (7 * k) + 6))) F (nI_add _ _) dX3_minute_157 ?_
                refine lv_dup2_11 F.x F.cd dX3_minute_158 rfl rfl ?_
                refine n_iald (i := 30 + (7 * k) + 6) (n := 114) (f := (fun x9 => nI ((va_up (va_up (va_up (flowsN (ar 0) k) (6 + (3 * (pA (flowsN (ar 0) k) k)) + 1) (tK (flowsN (ar 0) k) (pA (flowsN (ar 0) k) k) - (lit (flowsN (ar 0) k) k))) (6 + (3 * (pB (flowsN (ar 0) k) k)) + 1) (tK (flowsN (ar 0) k) (pB (flowsN (ar 0) k) k) + (lit (flowsN (ar 0) k) k - (min (lit (flowsN (ar 0) k) k) (pR (flowsN (ar 0) k) k))))) 5 ((flowsN (ar 0) k) 5 + (min (lit (flowsN (ar 0) k) k) (pR (flowsN (ar 0) k) k)))) x9))) (x := (nI (pL (flowsN (ar 0) k) k))) F hW (w36) (by omega) (by omega) (by show nI _ = nI _; rw [va_up_ne _ _ (by omega), va_up_ne _ _ (by omega), va_up_ne _ _ (by omega)]) dX3_minute_159 ?_
                refine lv_iload F.x F.cd dX3_minute_160 (lv_at hl 2 rfl) ?_
                refine a_iadd (v := (nI (pL (flowsN (ar 0) k) k + (lit (flowsN (ar 0) k) k)))) F (nI_add _ _) dX3_minute_162 ?_
                refine n_iastN (i := 30 + (7 * k) + 6) F hW (w36) (tbb 0 (by decide)) (by omega) (by omega) dX3_minute_163 (fun H locs hW => ?_)
                obtain ⟨σ45, hσ45⟩ : ∃ z, z = sset σ36 (A 0) (eI g 0 114 (fun x9 => nI ((va_up (va_up (va_up (va_up (flowsN (ar 0) k) (6 + (3 * (pA (flowsN (ar 0) k) k)) + 1) (tK (flowsN (ar 0) k) (pA (flowsN (ar 0) k) k) - (lit (flowsN (ar 0) k) k))) (6 + (3 * (pB (flowsN (ar 0) k) k)) + 1) (tK (flowsN (ar 0) k) (pB (flowsN (ar 0) k) k) + (lit (flowsN (ar 0) k) k - (min (lit (flowsN (ar 0) k) k) (pR (flowsN (ar 0) k) k))))) 5 ((flowsN (ar 0) k) 5 + (min (lit (flowsN (ar 0) k) k) (pR (flowsN (ar 0) k) k)))) (30 + (7 * k) + 6) (pL (flowsN (ar 0) k) k + (lit (flowsN (ar 0) k) k))) x9))) := ⟨_, rfl⟩
                have hW : Hl g σ45 H locs := by rw [hσ45]; exact hW
                have w45 : σ45 (A 0) = some (eI g 0 114 (fun x9 => nI ((va_up (va_up (va_up (va_up (flowsN (ar 0) k) (6 + (3 * (pA (flowsN (ar 0) k) k)) + 1) (tK (flowsN (ar 0) k) (pA (flowsN (ar 0) k) k) - (lit (flowsN (ar 0) k) k))) (6 + (3 * (pB (flowsN (ar 0) k) k)) + 1) (tK (flowsN (ar 0) k) (pB (flowsN (ar 0) k) k) + (lit (flowsN (ar 0) k) k - (min (lit (flowsN (ar 0) k) k) (pR (flowsN (ar 0) k) k))))) 5 ((flowsN (ar 0) k) 5 + (min (lit (flowsN (ar 0) k) k) (pR (flowsN (ar 0) k) k)))) (30 + (7 * k) + 6) (pL (flowsN (ar 0) k) k + (lit (flowsN (ar 0) k) k))) x9))) := by rw [hσ45]; exact sset_eq
                have f46 : σ45 m = some (.inr (7, [.ref (A 0), .ref (A 1), .ref (A 2), .int (iv 3), .ref (A 3), .int (iv 5), .ref (A 4), .ref (A 5), .int (iv 8), .ref (A 6), .int (iv 10), .int (iv 11), .ref wd, .ref (A 7), .int (iv 14), .int (iv 15), .int (iv 16), .int (iv 17)])) := by rw [hσ45, sset_ne (sto_ne w36 f37 (by simp))]; exact f37
                have f47 : σ45 (A 1) = some (eI g 0 114 (fun x9 => nI ((ar 1) x9))) := by rw [hσ45, sset_ne (fun q9 => absurd (tii 1 0 (by decide) (by decide) q9) (by decide))]; exact f38
                have f48 : σ45 (A 2) = some (eI g 0 912 (fun x9 => nI ((ar 2) x9))) := by rw [hσ45, sset_ne (fun q9 => absurd (tii 2 0 (by decide) (by decide) q9) (by decide))]; exact f39
                have f49 : σ45 (A 3) = some (eI g 0 114 (fun x9 => nI ((ar 3) x9))) := by rw [hσ45, sset_ne (fun q9 => absurd (tii 3 0 (by decide) (by decide) q9) (by decide))]; exact f40
                have f50 : σ45 (A 4) = some (eI g 2 2048 (fun x9 => bI (rb x9))) := by rw [hσ45, sset_ne (fun q9 => absurd (tii 4 0 (by decide) (by decide) q9) (by decide))]; exact f41
                have f51 : σ45 (A 5) = some (eI g 3 60 (fun x9 => nI ((ar 5) x9))) := by rw [hσ45, sset_ne (fun q9 => absurd (tii 5 0 (by decide) (by decide) q9) (by decide))]; exact f42
                have f52 : σ45 (A 6) = some (eI g 3 60 (fun x9 => nI ((ar 6) x9))) := by rw [hσ45, sset_ne (fun q9 => absurd (tii 6 0 (by decide) (by decide) q9) (by decide))]; exact f43
                have f53 : σ45 (A 7) = some (eI g 0 3 (fun x9 => nI ((ar 7) x9))) := by rw [hσ45, sset_ne (fun q9 => absurd (tii 7 0 (by decide) (by decide) q9) (by decide))]; exact f44
                refine lv_iload F.x F.cd dX3_minute_164 (lv_at hl 2 rfl) ?_
                refine lv_iload F.x F.cd dX3_minute_166 (lv_at hl 1 rfl) ?_
                refine n_icmp_le (a := lit (flowsN (ar 0) k) k) (b := min (lit (flowsN (ar 0) k) k) (pR (flowsN (ar 0) k) k)) (tgt := 204) F (by omega) (by omega) dX3_minute_168 (by decide) (fun c_168 => ?_) (fun c_168 => ?_)
                · refine lv_aload_n F.x F.cd dX3_minute_204 rfl (lv_at hl 6 rfl) ?_
                  refine s_get F hW (ci := 7) (C := RX3) (T := TX3) (N := 18) (v := .ref (A 0)) (f46) rfl in_X3 0 (by decide) q2279 (fun _ h9 => h9) rfl dX3_minute_205 ?_
                  refine lv_iload F.x F.cd dX3_minute_208 (lv_at hl 0 rfl) ?_
                  refine lv_iconst (v := (nI 5)) F.x F.cd dX3_minute_210 (by decide) ?_
                  refine a_iadd (v := (nI (30 + (7 * k) + 5))) F (nI_add _ _) dX3_minute_211 ?_
                  refine lv_bipush (v := (nI 20)) F.x F.cd dX3_minute_212 (by decide) ?_
                  refine lv_aload_n F.x F.cd dX3_minute_214 rfl (lv_at hl 6 rfl) ?_
                  refine s_get F hW (ci := 7) (C := RX3) (T := TX3) (N := 18) (v := .ref (A 0)) (f46) rfl in_X3 0 (by decide) q2279 (fun _ h9 => h9) rfl dX3_minute_215 ?_
                  refine lv_iload F.x F.cd dX3_minute_218 (lv_at hl 0 rfl) ?_
                  refine lv_iconst (v := (nI 5)) F.x F.cd dX3_minute_220 (by decide) ?_
                  refine a_iadd (v := (nI (30 + (7 * k) + 5))) F (nI_add _ _) dX3_minute_221 ?_
                  refine n_iald (i := 30 + (7 * k) + 5) (n := 114) (f := (fun x9 => nI ((va_up (va_up (va_up (va_up (flowsN (ar 0) k) (6 + (3 * (pA (flowsN (ar 0) k) k)) + 1) (tK (flowsN (ar 0) k) (pA (flowsN (ar 0) k) k) - (lit (flowsN (ar 0) k) k))) (6 + (3 * (pB (flowsN (ar 0) k) k)) + 1) (tK (flowsN (ar 0) k) (pB (flowsN (ar 0) k) k) + (lit (flowsN (ar 0) k) k - (min (lit (flowsN (ar 0) k) k) (pR (flowsN (ar 0) k) k))))) 5 ((flowsN (ar 0) k) 5 + (min (lit (flowsN (ar 0) k) k) (pR (flowsN (ar 0) k) k)))) (30 + (7 * k) + 6) (pL (flowsN (ar 0) k) k + (lit (flowsN (ar 0) k) k))) x9))) (x := (nI (pD (flowsN (ar 0) k) k))) F hW (w45) (by omega) (by omega) (by show nI _ = nI _; first | (rw [va_up_ne _ _ (by omega), va_up_ne _ _ (by omega), va_up_ne _ _ (by omega), va_up_ne _ _ (by omega), va_up_ne _ _ (by omega)]) | (rw [va_up_ne _ _ (by omega), va_up_ne _ _ (by omega), va_up_ne _ _ (by omega), va_up_ne _ _ (by omega)])) dX3_minute_222 ?_
                  refine lv_aload_n F.x F.cd dX3_minute_223 rfl (lv_at hl 6 rfl) ?_
                  refine s_get F hW (ci := 7) (C := RX3) (T := TX3) (N := 18) (v := .ref (A 0)) (f46) rfl in_X3 0 (by decide) q2279 (fun _ h9 => h9) rfl dX3_minute_224 ?_
                  refine lv_iload F.x F.cd dX3_minute_227 (lv_at hl 4 rfl) ?_
                  refine lv_iconst (v := (nI 2)) F.x F.cd dX3_minute_229 (by decide) ?_
                  refine a_iadd (v := (nI (6 + (3 * (pA (flowsN (ar 0) k) k)) + 2))) F (nI_add _ _) dX3_minute_230 ?_
                  refine n_iald (i := 6 + (3 * (pA (flowsN (ar 0) k) k)) + 2) (n := 114) (f := (fun x9 => nI ((va_up (va_up (va_up (va_up (flowsN (ar 0) k) (6 + (3 * (pA (flowsN (ar 0) k) k)) + 1) (tK (flowsN (ar 0) k) (pA (flowsN (ar 0) k) k) - (lit (flowsN (ar 0) k) k))) (6 + (3 * (pB (flowsN (ar 0) k) k)) + 1) (tK (flowsN (ar 0) k) (pB (flowsN (ar 0) k) k) + (lit (flowsN (ar 0) k) k - (min (lit (flowsN (ar 0) k) k) (pR (flowsN (ar 0) k) k))))) 5 ((flowsN (ar 0) k) 5 + (min (lit (flowsN (ar 0) k) k) (pR (flowsN (ar 0) k) k)))) (30 + (7 * k) + 6) (pL (flowsN (ar 0) k) k + (lit (flowsN (ar 0) k) k))) x9))) (x := (nI (tI (flowsN (ar 0) k) (pA (flowsN (ar 0) k) k)))) F hW (w45) (by omega) (by omega) (by show nI _ = nI _; first | (rw [va_up_ne _ _ (by omega), va_up_ne _ _ (by omega), va_up_ne _ _ (by omega), va_up_ne _ _ (by omega), va_up_ne _ _ (by omega)]) | (rw [va_up_ne _ _ (by omega), va_up_ne _ _ (by omega), va_up_ne _ _ (by omega), va_up_ne _ _ (by omega)])) dX3_minute_231 ?_
                  refine lv_aload_n F.x F.cd dX3_minute_232 rfl (lv_at hl 6 rfl) ?_
                  refine s_get F hW (ci := 7) (C := RX3) (T := TX3) (N := 18) (v := .ref (A 0)) (f46) rfl in_X3 0 (by decide) q2279 (fun _ h9 => h9) rfl dX3_minute_233 ?_
                  refine lv_iload F.x F.cd dX3_minute_236 (lv_at hl 0 rfl) ?_
                  refine lv_iconst (v := (nI 2)) F.x F.cd dX3_minute_238 (by decide) ?_
                  refine a_iadd (v := (nI (30 + (7 * k) + 2))) F (nI_add _ _) dX3_minute_239 ?_
                  refine n_iald (i := 30 + (7 * k) + 2) (n := 114) (f := (fun x9 => nI ((va_up (va_up (va_up (va_up (flowsN (ar 0) k) (6 + (3 * (pA (flowsN (ar 0) k) k)) + 1) (tK (flowsN (ar 0) k) (pA (flowsN (ar 0) k) k) - (lit (flowsN (ar 0) k) k))) (6 + (3 * (pB (flowsN (ar 0) k) k)) + 1) (tK (flowsN (ar 0) k) (pB (flowsN (ar 0) k) k) + (lit (flowsN (ar 0) k) k - (min (lit (flowsN (ar 0) k) k) (pR (flowsN (ar 0) k) k))))) 5 ((flowsN (ar 0) k) 5 + (min (lit (flowsN (ar 0) k) k) (pR (flowsN (ar 0) k) k)))) (30 + (7 * k) + 6) (pL (flowsN (ar 0) k) k + (lit (flowsN (ar 0) k) k))) x9))) (x := (nI (pM (flowsN (ar 0) k) k))) F hW (w45) (by omega) (by omega) (by show nI _ = nI _; first | (rw [va_up_ne _ _ (by omega), va_up_ne _ _ (by omega), va_up_ne _ _ (by omega), va_up_ne _ _ (by omega), va_up_ne _ _ (by omega)]) | (rw [va_up_ne _ _ (by omega), va_up_ne _ _ (by omega), va_up_ne _ _ (by omega), va_up_ne _ _ (by omega)])) dX3_minute_240 ?_
                  refine a_iand (v := (nI (tI (flowsN (ar 0) k) (pA (flowsN (ar 0) k) k) &&& pM (flowsN (ar 0) k) k))) F (nI_and _ _) dX3_minute_241 ?_
                  refine s_callS (As := [.int (nI (tI (flowsN (ar 0) k) (pA (flowsN (ar 0) k) k) &&& pM (flowsN (ar 0) k) k))]) (rest := [.int (nI (pD (flowsN (ar 0) k) k)), .int (nI 20), .int (nI (30 + (7 * k) + 5)), .ref (A 0)]) (n := 1) F hW (k_J19_bitCount g l σ45 (nI (tI (flowsN (ar 0) k) (pA (flowsN (ar 0) k) k) &&& pM (flowsN (ar 0) k) k))) q2446 q2447 q92 q2448 (by decide +kernel) rfl ⟨⟨Nat.le_of_ble_eq_true rfl, Nat.le_of_ble_eq_true rfl⟩, ⟨(Nat.le_of_ble_eq_true rfl), (Nat.le_of_ble_eq_true rfl)⟩⟩ (Nat.le_of_ble_eq_true rfl) hl.1 rfl dX3_minute_242 cX_no (fun r54 σ54 H locs hp54 hW => ?_)
                  obtain ⟨rfl, hs54⟩ := hp54
                  rw [hs54] at hW
                  refine W.eq (g2 := F0 m_ 245 ls (.int (nI (pops (tI (flowsN (ar 0) k) (pA (flowsN (ar 0) k) k) &&& pM (flowsN (ar 0) k) k))) :: .int (nI (pD (flowsN (ar 0) k) k)) :: .int (nI 20) :: .int (nI (30 + (7 * k) + 5)) :: .ref (A 0) :: [])) (by rw [bcI_nI _ (Nat.lt_of_le_of_lt Nat.and_le_left (by omega))] <;> rfl) ?_
                  refine a_iadd (v := (nI (pD (flowsN (ar 0) k) k + (pops (tI (flowsN (ar 0) k) (pA (flowsN (ar 0) k) k) &&& pM (flowsN (ar 0) k) k))))) F (nI_add _ _) dX3_minute_245 ?_
                  refine s_mmin (v := (nI (min 20 (pD (flowsN (ar 0) k) k + (pops (tI (flowsN (ar 0) k) (pA (flowsN (ar 0) k) k) &&& pM (flowsN (ar 0) k) k)))))) F q2445 q453 q87 q454 hl.1 (Nat.le_of_ble_eq_true rfl) (Nat.le_of_ble_eq_true rfl) (Nat.le_of_ble_eq_true rfl) (Nat.le_of_ble_eq_true rfl) (nI_min (by omega) (by omega)) dX3_minute_246 ?_
                  refine n_iastN (i := 30 + (7 * k) + 5) F hW (w45) (tbb 0 (by decide)) (by omega) (by omega) dX3_minute_249 (fun H locs hW => ?_)
                  obtain ⟨σ55, hσ55⟩ : ∃ z, z = sset σ45 (A 0) (eI g 0 114 (fun x9 => nI ((va_up (va_up (va_up (va_up (va_up (flowsN (ar 0) k) (6 + (3 * (pA (flowsN (ar 0) k) k)) + 1) (tK (flowsN (ar 0) k) (pA (flowsN (ar 0) k) k) - (lit (flowsN (ar 0) k) k))) (6 + (3 * (pB (flowsN (ar 0) k) k)) + 1) (tK (flowsN (ar 0) k) (pB (flowsN (ar 0) k) k) + (lit (flowsN (ar 0) k) k - (min (lit (flowsN (ar 0) k) k) (pR (flowsN (ar 0) k) k))))) 5 ((flowsN (ar 0) k) 5 + (min (lit (flowsN (ar 0) k) k) (pR (flowsN (ar 0) k) k)))) (30 + (7 * k) + 6) (pL (flowsN (ar 0) k) k + (lit (flowsN (ar 0) k) k))) (30 + (7 * k) + 5) (min 20 (pD (flowsN (ar 0) k) k + (pops (tI (flowsN (ar 0) k) (pA (flowsN (ar 0) k) k) &&& pM (flowsN (ar 0) k) k))))) x9))) := ⟨_, rfl⟩
                  have hW : Hl g σ55 H locs := by rw [hσ55]; exact hW
                  have w55 : σ55 (A 0) = some (eI g 0 114 (fun x9 => nI ((va_up (va_up (va_up (va_up (va_up (flowsN (ar 0) k) (6 + (3 * (pA (flowsN (ar 0) k) k)) + 1) (tK (flowsN (ar 0) k) (pA (flowsN (ar 0) k) k) - (lit (flowsN (ar 0) k) k))) (6 + (3 * (pB (flowsN (ar 0) k) k)) + 1) (tK (flowsN (ar 0) k) (pB (flowsN (ar 0) k) k) + (lit (flowsN (ar 0) k) k - (min (lit (flowsN (ar 0) k) k) (pR (flowsN (ar 0) k) k))))) 5 ((flowsN (ar 0) k) 5 + (min (lit (flowsN (ar 0) k) k) (pR (flowsN (ar 0) k) k)))) (30 + (7 * k) + 6) (pL (flowsN (ar 0) k) k + (lit (flowsN (ar 0) k) k))) (30 + (7 * k) + 5) (min 20 (pD (flowsN (ar 0) k) k + (pops (tI (flowsN (ar 0) k) (pA (flowsN (ar 0) k) k) &&& pM (flowsN (ar 0) k) k))))) x9))) := by rw [hσ55]; exact sset_eq
                  have f56 : σ55 m = some (.inr (7, [.ref (A 0), .ref (A 1), .ref (A 2), .int (iv 3), .ref (A 3), .int (iv 5), .ref (A 4), .ref (A 5), .int (iv 8), .ref (A 6), .int (iv 10), .int (iv 11), .ref wd, .ref (A 7), .int (iv 14), .int (iv 15), .int (iv 16), .int (iv 17)])) := by rw [hσ55, sset_ne (sto_ne w45 f46 (by simp))]; exact f46
                  have f57 : σ55 (A 1) = some (eI g 0 114 (fun x9 => nI ((ar 1) x9))) := by rw [hσ55, sset_ne (fun q9 => absurd (tii 1 0 (by decide) (by decide) q9) (by decide))]; exact f47
                  have f58 : σ55 (A 2) = some (eI g 0 912 (fun x9 => nI ((ar 2) x9))) := by rw [hσ55, sset_ne (fun q9 => absurd (tii 2 0 (by decide) (by decide) q9) (by decide))]; exact f48
                  have f59 : σ55 (A 3) = some (eI g 0 114 (fun x9 => nI ((ar 3) x9))) := by rw [hσ55, sset_ne (fun q9 => absurd (tii 3 0 (by decide) (by decide) q9) (by decide))]; exact f49
                  have f60 : σ55 (A 4) = some (eI g 2 2048 (fun x9 => bI (rb x9))) := by rw [hσ55, sset_ne (fun q9 => absurd (tii 4 0 (by decide) (by decide) q9) (by decide))]; exact f50
                  have f61 : σ55 (A 5) = some (eI g 3 60 (fun x9 => nI ((ar 5) x9))) := by rw [hσ55, sset_ne (fun q9 => absurd (tii 5 0 (by decide) (by decide) q9) (by decide))]; exact f51
                  have f62 : σ55 (A 6) = some (eI g 3 60 (fun x9 => nI ((ar 6) x9))) := by rw [hσ55, sset_ne (fun q9 => absurd (tii 6 0 (by decide) (by decide) q9) (by decide))]; exact f52
                  have f63 : σ55 (A 7) = some (eI g 0 3 (fun x9 => nI ((ar 7) x9))) := by rw [hσ55, sset_ne (fun q9 => absurd (tii 7 0 (by decide) (by decide) q9) (by decide))]; exact f53
                  have tw64 : IsTw g σ55 m A iv wd (va_up ar 0 (va_up (va_up (va_up (va_up (va_up (flowsN (ar 0) k) (6 + (3 * (pA (flowsN (ar 0) k) k)) + 1) (tK (flowsN (ar 0) k) (pA (flowsN (ar 0) k) k) - (lit (flowsN (ar 0) k) k))) (6 + (3 * (pB (flowsN (ar 0) k) k)) + 1) (tK (flowsN (ar 0) k) (pB (flowsN (ar 0) k) k) + (lit (flowsN (ar 0) k) k - (min (lit (flowsN (ar 0) k) k) (pR (flowsN (ar 0) k) k))))) 5 ((flowsN (ar 0) k) 5 + (min (lit (flowsN (ar 0) k) k) (pR (flowsN (ar 0) k) k)))) (30 + (7 * k) + 6) (pL (flowsN (ar 0) k) k + (lit (flowsN (ar 0) k) k))) (30 + (7 * k) + 5) (min 20 (pD (flowsN (ar 0) k) k + (pops (tI (flowsN (ar 0) k) (pA (flowsN (ar 0) k) k) &&& pM (flowsN (ar 0) k) k)))))) rb := ⟨f56, tb0, w55, f57, f58, f59, f60, f61, f62, f63, tbb, tii⟩
                  have fm64 : Fm σ σ55 m A := by rw [hσ55, hσ45, hσ36, hσ27, hσ18]; exact (((((fmk).setA 0 (by decide)).setA 0 (by decide)).setA 0 (by decide)).setA 0 (by decide)).setA 0 (by decide)
                  have tw_65 : IsTw g σ55 m A iv wd (va_up ar 0 (flowsN (ar 0) (k + 1))) rb := by
                    rw [show flowsN (ar 0) (k + 1) = flowv (flowsN (ar 0) k) k (lit (flowsN (ar 0) k) k) by rw [flowsN, if_pos hlp], ← tw_flow hs hd (by omega) (by omega) (by omega), twG]
                    first | rw [if_pos (by omega), twF] | rw [if_neg (by omega), twF]
                    exact ⟨f56, tb0, w55, f57, f58, f59, f60, f61, f62, f63, tbb, tii⟩
                  obtain ⟨t0_65, -, ta0_65, ta1_65, ta2_65, ta3_65, ta4_65, ta5_65, ta6_65, ta7_65, -, -⟩ := id tw_65
                  refine lv_iload_n F.x F.cd dX3_minute_250 rfl (lv_at hl 7 rfl) ?_
                  refine lv_iload F.x F.cd dX3_minute_251 (lv_at hl 2 rfl) ?_
                  refine a_iadd (v := (nI (flN (ar 0) k + (lit (flowsN (ar 0) k) k)))) F (nI_add _ _) dX3_minute_253 ?_
                  refine lv_istore_n (lv' := [(1, .int (nI (flN (ar 0) k + (lit (flowsN (ar 0) k) k)))), (8, .int (nI (30 + (7 * k)))), (7, .int (nI (min (lit (flowsN (ar 0) k) k) (pR (flowsN (ar 0) k) k)))), (6, .int (nI (lit (flowsN (ar 0) k) k))), (5, .int (nI (6 + (3 * (pB (flowsN (ar 0) k) k))))), (4, .int (nI (6 + (3 * (pA (flowsN (ar 0) k) k))))), (3, .int (nI (lit (flowsN (ar 0) k) k))), (0, .ref m), (2, .int (nI k))]) F.x F.cd dX3_minute_254 rfl hl (by decide) rfl (fun ls hl => ?_)
                  have hl : lv_has ls 9 [(1, .int (nI (flN (ar 0) (k + 1)))), (8, .int (nI (30 + (7 * k)))), (7, .int (nI (min (lit (flowsN (ar 0) k) k) (pR (flowsN (ar 0) k) k)))), (6, .int (nI (lit (flowsN (ar 0) k) k))), (5, .int (nI (6 + (3 * (pB (flowsN (ar 0) k) k))))), (4, .int (nI (6 + (3 * (pA (flowsN (ar 0) k) k))))), (3, .int (nI (lit (flowsN (ar 0) k) k))), (0, .ref m), (2, .int (nI k))] := by rw [show flN (ar 0) (k + 1) = flN (ar 0) k + lit (flowsN (ar 0) k) k from rfl]; exact hl
                  refine lv_iinc (k := 8) (v := (nI (k + 1))) (lv' := [(2, .int (nI (k + 1))), (1, .int (nI (flN (ar 0) (k + 1)))), (8, .int (nI (30 + (7 * k)))), (7, .int (nI (min (lit (flowsN (ar 0) k) k) (pR (flowsN (ar 0) k) k)))), (6, .int (nI (lit (flowsN (ar 0) k) k))), (5, .int (nI (6 + (3 * (pB (flowsN (ar 0) k) k))))), (4, .int (nI (6 + (3 * (pA (flowsN (ar 0) k) k))))), (3, .int (nI (lit (flowsN (ar 0) k) k))), (0, .ref m)]) F.x F.cd dX3_minute_255 hl rfl (inc_nI k 1) (by decide) rfl (fun ls hl => ?_)
                  refine lv_goto (tgt := 14) F.x F.cd dX3_minute_258 (by decide) ?_
                  exact ih14 (k + 1) σ55 (by omega) (tw_65) (fm64) H locs ls hW (lv_sub hl [8, 1, 0] rfl)
                · refine lv_aload_n F.x F.cd dX3_minute_171 rfl (lv_at hl 6 rfl) ?_
                  refine s_get F hW (ci := 7) (C := RX3) (T := TX3) (N := 18) (v := .ref (A 0)) (f46) rfl in_X3 0 (by decide) q2279 (fun _ h9 => h9) rfl dX3_minute_172 ?_
                  refine lv_iload F.x F.cd dX3_minute_175 (lv_at hl 3 rfl) ?_
                  refine lv_iconst (v := (nI 2)) F.x F.cd dX3_minute_177 (by decide) ?_
                  refine a_iadd (v := (nI (6 + (3 * (pB (flowsN (ar 0) k) k)) + 2))) F (nI_add _ _) dX3_minute_178 ?_
                  refine lv_dup2_11 F.x F.cd dX3_minute_179 rfl rfl ?_
                  refine n_iald (i := 6 + (3 * (pB (flowsN (ar 0) k) k)) + 2) (n := 114) (f := (fun x9 => nI ((va_up (va_up (va_up (va_up (flowsN (ar 0) k) (6 + (3 * (pA (flowsN (ar 0) k) k)) + 1) (tK (flowsN (ar 0) k) (pA (flowsN (ar 0) k) k) - (lit (flowsN (ar 0) k) k))) (6 + (3 * (pB (flowsN (ar 0) k) k)) + 1) (tK (flowsN (ar 0) k) (pB (flowsN (ar 0) k) k) + (lit (flowsN (ar 0) k) k - (min (lit (flowsN (ar 0) k) k) (pR (flowsN (ar 0) k) k))))) 5 ((flowsN (ar 0) k) 5 + (min (lit (flowsN (ar 0) k) k) (pR (flowsN (ar 0) k) k)))) (30 + (7 * k) + 6) (pL (flowsN (ar 0) k) k + (lit (flowsN (ar 0) k) k))) x9))) (x := (nI (tI (flowsN (ar 0) k) (pB (flowsN (ar 0) k) k)))) F hW (w45) (by omega) (by omega) (by show nI _ = nI _; rw [va_up_ne _ _ (by omega), va_up_ne _ _ (by omega), va_up_ne _ _ (by omega), va_up_ne _ _ (by omega)]) dX3_minute_180 ?_
                  refine lv_aload_n F.x F.cd dX3_minute_181 rfl (lv_at hl 6 rfl) ?_
                  refine s_get F hW (ci := 7) (C := RX3) (T := TX3) (N := 18) (v := .ref (A 0)) (f46) rfl in_X3 0 (by decide) q2279 (fun _ h9 => h9) rfl dX3_minute_182 ?_
                  refine lv_iload F.x F.cd dX3_minute_185 (lv_at hl 4 rfl) ?_
                  refine lv_iconst (v := (nI 2)) F.x F.cd dX3_minute_187 (by decide) ?_
                  refine a_iadd (v := (nI (6 + (3 * (pA (flowsN (ar 0) k) k)) + 2))) F (nI_add _ _) dX3_minute_188 ?_
                  refine n_iald (i := 6 + (3 * (pA (flowsN (ar 0) k) k)) + 2) (n := 114) (f := (fun x9 => nI ((va_up (va_up (va_up (va_up (flowsN (ar 0) k) (6 + (3 * (pA (flowsN (ar 0) k) k)) + 1) (tK (flowsN (ar 0) k) (pA (flowsN (ar 0) k) k) - (lit (flowsN (ar 0) k) k))) (6 + (3 * (pB (flowsN (ar 0) k) k)) + 1) (tK (flowsN (ar 0) k) (pB (flowsN (ar 0) k) k) + (lit (flowsN (ar 0) k) k - (min (lit (flowsN (ar 0) k) k) (pR (flowsN (ar 0) k) k))))) 5 ((flowsN (ar 0) k) 5 + (min (lit (flowsN (ar 0) k) k) (pR (flowsN (ar 0) k) k)))) (30 + (7 * k) + 6) (pL (flowsN (ar 0) k) k + (lit (flowsN (ar 0) k) k))) x9))) (x := (nI (tI (flowsN (ar 0) k) (pA (flowsN (ar 0) k) k)))) F hW (w45) (by omega) (by omega) (by show nI _ = nI _; rw [va_up_ne _ _ (by omega), va_up_ne _ _ (by omega), va_up_ne _ _ (by omega), va_up_ne _ _ (by omega)]) dX3_minute_189 ?_
                  refine lv_aload_n F.x F.cd dX3_minute_190 rfl (lv_at hl 6 rfl) ?_
                  refine s_get F hW (ci := 7) (C := RX3) (T := TX3) (N := 18) (v := .ref (A 0)) (f46) rfl in_X3 0 (by decide) q2279 (fun _ h9 => h9) rfl dX3_minute_191 ?_
                  refine lv_iload F.x F.cd dX3_minute_194 (lv_at hl 0 rfl) ?_
                  refine lv_iconst (v := (nI 2)) F.x F.cd dX3_minute_196 (by decide) ?_
                  refine a_iadd (v := (nI (30 + (7 * k) + 2))) F (nI_add _ _) dX3_minute_197 ?_
                  refine n_iald (i := 30 + (7 * k) + 2) (n := 114) (f := (fun x9 => nI ((va_up (va_up (va_up (va_up (flowsN (ar 0) k) (6 + (3 * (pA (flowsN (ar 0) k) k)) + 1) (tK (flowsN (ar 0) k) (pA (flowsN (ar 0) k) k) - (lit (flowsN (ar 0) k) k))) (6 + (3 * (pB (flowsN (ar 0) k) k)) + 1) (tK (flowsN (ar 0) k) (pB (flowsN (ar 0) k) k) + (lit (flowsN (ar 0) k) k - (min (lit (flowsN (ar 0) k) k) (pR (flowsN (ar 0) k) k))))) 5 ((flowsN (ar 0) k) 5 + (min (lit (flowsN (ar 0) k) k) (pR (flowsN (ar 0) k) k)))) (30 + (7 * k) + 6) (pL (flowsN (ar 0) k) k + (lit (flowsN (ar 0) k) k))) x9))) (x := (nI (pM (flowsN (ar 0) k) k))) F hW (w45) (by omega) (by omega) (by show nI _ = nI _; rw [va_up_ne _ _ (by omega), va_up_ne _ _ (by omega), va_up_ne _ _ (by omega), va_up_ne _ _ (by omega)]) dX3_minute_198 ?_
                  refine lv_iconst (v := (-1 : Int32)) F.x F.cd dX3_minute_199 (by decide) ?_
                  refine a_ixor (v := ((nI (pM (flowsN (ar 0) k) k)) ^^^ (-1))) F (rfl) dX3_minute_200 ?_
                  refine a_iand (v := (nI (clr (tI (flowsN (ar 0) k) (pA (flowsN (ar 0) k) k)) (pM (flowsN (ar 0) k) k)))) F (nI_clr _ (by omega) _ (by omega)) dX3_minute_201 ?_
                  refine a_ior (v := (nI (tI (flowsN (ar 0) k) (pB (flowsN (ar 0) k) k) ||| clr (tI (flowsN (ar 0) k) (pA (flowsN (ar 0) k) k)) (pM (flowsN (ar 0) k) k)))) F (nI_or _ _) dX3_minute_202 ?_
                  refine n_iastN (i := 6 + (3 * (pB (flowsN (ar 0) k) k)) + 2) F hW (w45) (tbb 0 (by decide)) (by omega) (by omega) dX3_minute_203 (fun H locs hW => ?_)
                  obtain ⟨σ67, hσ67⟩ : ∃ z, z = sset σ45 (A 0) (eI g 0 114 (fun x9 => nI ((va_up (va_up (va_up (va_up (va_up (flowsN (ar 0) k) (6 + (3 * (pA (flowsN (ar 0) k) k)) + 1) (tK (flowsN (ar 0) k) (pA (flowsN (ar 0) k) k) - (lit (flowsN (ar 0) k) k))) (6 + (3 * (pB (flowsN (ar 0) k) k)) + 1) (tK (flowsN (ar 0) k) (pB (flowsN (ar 0) k) k) + (lit (flowsN (ar 0) k) k - (min (lit (flowsN (ar 0) k) k) (pR (flowsN (ar 0) k) k))))) 5 ((flowsN (ar 0) k) 5 + (min (lit (flowsN (ar 0) k) k) (pR (flowsN (ar 0) k) k)))) (30 + (7 * k) + 6) (pL (flowsN (ar 0) k) k + (lit (flowsN (ar 0) k) k))) (6 + (3 * (pB (flowsN (ar 0) k) k)) + 2) (tI (flowsN (ar 0) k) (pB (flowsN (ar 0) k) k) ||| clr (tI (flowsN (ar 0) k) (pA (flowsN (ar 0) k) k)) (pM (flowsN (ar 0) k) k))) x9))) := ⟨_, rfl⟩
                  have hW : Hl g σ67 H locs := by rw [hσ67]; exact hW
                  have w67 : σ67 (A 0) = some (eI g 0 114 (fun x9 => nI ((va_up (va_up (va_up (va_up (va_up (flowsN (ar 0) k) (6 + (3 * (pA (flowsN (ar 0) k) k)) + 1) (tK (flowsN (ar 0) k) (pA (flowsN (ar 0) k) k) - (lit (flowsN (ar 0) k) k))) (6 + (3 * (pB (flowsN (ar 0) k) k)) + 1) (tK (flowsN (ar 0) k) (pB (flowsN (ar 0) k) k) + (lit (flowsN (ar 0) k) k - (min (lit (flowsN (ar 0) k) k) (pR (flowsN (ar 0) k) k))))) 5 ((flowsN (ar 0) k) 5 + (min (lit (flowsN (ar 0) k) k) (pR (flowsN (ar 0) k) k)))) (30 + (7 * k) + 6) (pL (flowsN (ar 0) k) k + (lit (flowsN (ar 0) k) k))) (6 + (3 * (pB (flowsN (ar 0) k) k)) + 2) (tI (flowsN (ar 0) k) (pB (flowsN (ar 0) k) k) ||| clr (tI (flowsN (ar 0) k) (pA (flowsN (ar 0) k) k)) (pM (flowsN (ar 0) k) k))) x9))) := by rw [hσ67]; exact sset_eq
                  have f68 : σ67 m = some (.inr (7, [.ref (A 0), .ref (A 1), .ref (A 2), .int (iv 3), .ref (A 3), .int (iv 5), .ref (A 4), .ref (A 5), .int (iv 8), .ref (A 6), .int (iv 10), .int (iv 11), .ref wd, .ref (A 7), .int (iv 14), .int (iv 15), .int (iv 16), .int (iv 17)])) := by rw [hσ67, sset_ne (sto_ne w45 f46 (by simp))]; exact f46
                  have f69 : σ67 (A 1) = some (eI g 0 114 (fun x9 => nI ((ar 1) x9))) := by rw [hσ67, sset_ne (fun q9 => absurd (tii 1 0 (by decide) (by decide) q9) (by decide))]; exact f47
                  have f70 : σ67 (A 2) = some (eI g 0 912 (fun x9 => nI ((ar 2) x9))) := by rw [hσ67, sset_ne (fun q9 => absurd (tii 2 0 (by decide) (by decide) q9) (by decide))]; exact f48
                  have f71 : σ67 (A 3) = some (eI g 0 114 (fun x9 => nI ((ar 3) x9))) := by rw [hσ67, sset_ne (fun q9 => absurd (tii 3 0 (by decide) (by decide) q9) (by decide))]; exact f49
                  have f72 : σ67 (A 4) = some (eI g 2 2048 (fun x9 => bI (rb x9))) := by rw [hσ67, sset_ne (fun q9 => absurd (tii 4 0 (by decide) (by decide) q9) (by decide))]; exact f50
                  have f73 : σ67 (A 5) = some (eI g 3 60 (fun x9 => nI ((ar 5) x9))) := by rw [hσ67, sset_ne (fun q9 => absurd (tii 5 0 (by decide) (by decide) q9) (by decide))]; exact f51
                  have f74 : σ67 (A 6) = some (eI g 3 60 (fun x9 => nI ((ar 6) x9))) := by rw [hσ67, sset_ne (fun q9 => absurd (tii 6 0 (by decide) (by decide) q9) (by decide))]; exact f52
                  have f75 : σ67 (A 7) = some (eI g 0 3 (fun x9 => nI ((ar 7) x9))) := by rw [hσ67, sset_ne (fun q9 => absurd (tii 7 0 (by decide) (by decide) q9) (by decide))]; exact f53
                  refine lv_aload_n F.x F.cd dX3_minute_204 rfl (lv_at hl 6 rfl) ?_
                  refine s_get F hW (ci := 7) (C := RX3) (T := TX3) (N := 18) (v := .ref (A 0)) (f68) rfl in_X3 0 (by decide) q2279 (fun _ h9 => h9) rfl dX3_minute_205 ?_
                  refine lv_iload F.x F.cd dX3_minute_208 (lv_at hl 0 rfl) ?_
                  refine lv_iconst (v := (nI 5)) F.x F.cd dX3_minute_210 (by decide) ?_
                  refine a_iadd (v := (nI (30 + (7 * k) + 5))) F (nI_add _ _) dX3_minute_211 ?_
                  refine lv_bipush (v := (nI 20)) F.x F.cd dX3_minute_212 (by decide) ?_
                  refine lv_aload_n F.x F.cd dX3_minute_214 rfl (lv_at hl 6 rfl) ?_
                  refine s_get F hW (ci := 7) (C := RX3) (T := TX3) (N := 18) (v := .ref (A 0)) (f68) rfl in_X3 0 (by decide) q2279 (fun _ h9 => h9) rfl dX3_minute_215 ?_
                  refine lv_iload F.x F.cd dX3_minute_218 (lv_at hl 0 rfl) ?_
                  refine lv_iconst (v := (nI 5)) F.x F.cd dX3_minute_220 (by decide) ?_
                  refine a_iadd (v := (nI (30 + (7 * k) + 5))) F (nI_add _ _) dX3_minute_221 ?_
                  refine n_iald (i := 30 + (7 * k) + 5) (n := 114) (f := (fun x9 => nI ((va_up (va_up (va_up (va_up (va_up (flowsN (ar 0) k) (6 + (3 * (pA (flowsN (ar 0) k) k)) + 1) (tK (flowsN (ar 0) k) (pA (flowsN (ar 0) k) k) - (lit (flowsN (ar 0) k) k))) (6 + (3 * (pB (flowsN (ar 0) k) k)) + 1) (tK (flowsN (ar 0) k) (pB (flowsN (ar 0) k) k) + (lit (flowsN (ar 0) k) k - (min (lit (flowsN (ar 0) k) k) (pR (flowsN (ar 0) k) k))))) 5 ((flowsN (ar 0) k) 5 + (min (lit (flowsN (ar 0) k) k) (pR (flowsN (ar 0) k) k)))) (30 + (7 * k) + 6) (pL (flowsN (ar 0) k) k + (lit (flowsN (ar 0) k) k))) (6 + (3 * (pB (flowsN (ar 0) k) k)) + 2) (tI (flowsN (ar 0) k) (pB (flowsN (ar 0) k) k) ||| clr (tI (flowsN (ar 0) k) (pA (flowsN (ar 0) k) k)) (pM (flowsN (ar 0) k) k))) x9))) (x := (nI (pD (flowsN (ar 0) k) k))) F hW (w67) (by omega) (by omega) (by show nI _ = nI _; first | (rw [va_up_ne _ _ (by omega), va_up_ne _ _ (by omega), va_up_ne _ _ (by omega), va_up_ne _ _ (by omega), va_up_ne _ _ (by omega)]) | (rw [va_up_ne _ _ (by omega), va_up_ne _ _ (by omega), va_up_ne _ _ (by omega), va_up_ne _ _ (by omega)])) dX3_minute_222 ?_
                  refine lv_aload_n F.x F.cd dX3_minute_223 rfl (lv_at hl 6 rfl) ?_
                  refine s_get F hW (ci := 7) (C := RX3) (T := TX3) (N := 18) (v := .ref (A 0)) (f68) rfl in_X3 0 (by decide) q2279 (fun _ h9 => h9) rfl dX3_minute_224 ?_
                  refine lv_iload F.x F.cd dX3_minute_227 (lv_at hl 4 rfl) ?_
                  refine lv_iconst (v := (nI 2)) F.x F.cd dX3_minute_229 (by decide) ?_
                  refine a_iadd (v := (nI (6 + (3 * (pA (flowsN (ar 0) k) k)) + 2))) F (nI_add _ _) dX3_minute_230 ?_
                  refine n_iald (i := 6 + (3 * (pA (flowsN (ar 0) k) k)) + 2) (n := 114) (f := (fun x9 => nI ((va_up (va_up (va_up (va_up (va_up (flowsN (ar 0) k) (6 + (3 * (pA (flowsN (ar 0) k) k)) + 1) (tK (flowsN (ar 0) k) (pA (flowsN (ar 0) k) k) - (lit (flowsN (ar 0) k) k))) (6 + (3 * (pB (flowsN (ar 0) k) k)) + 1) (tK (flowsN (ar 0) k) (pB (flowsN (ar 0) k) k) + (lit (flowsN (ar 0) k) k - (min (lit (flowsN (ar 0) k) k) (pR (flowsN (ar 0) k) k))))) 5 ((flowsN (ar 0) k) 5 + (min (lit (flowsN (ar 0) k) k) (pR (flowsN (ar 0) k) k)))) (30 + (7 * k) + 6) (pL (flowsN (ar 0) k) k + (lit (flowsN (ar 0) k) k))) (6 + (3 * (pB (flowsN (ar 0) k) k)) + 2) (tI (flowsN (ar 0) k) (pB (flowsN (ar 0) k) k) ||| clr (tI (flowsN (ar 0) k) (pA (flowsN (ar 0) k) k)) (pM (flowsN (ar 0) k) k))) x9))) (x := (nI (tI (flowsN (ar 0) k) (pA (flowsN (ar 0) k) k)))) F hW (w67) (by omega) (by omega) (by show nI _ = nI _; first | (rw [va_up_ne _ _ (by omega), va_up_ne _ _ (by omega), va_up_ne _ _ (by omega), va_up_ne _ _ (by omega), va_up_ne _ _ (by omega)]) | (rw [va_up_ne _ _ (by omega), va_up_ne _ _ (by omega), va_up_ne _ _ (by omega), va_up_ne _ _ (by omega)])) dX3_minute_231 ?_
                  refine lv_aload_n F.x F.cd dX3_minute_232 rfl (lv_at hl 6 rfl) ?_
                  refine s_get F hW (ci := 7) (C := RX3) (T := TX3) (N := 18) (v := .ref (A 0)) (f68) rfl in_X3 0 (by decide) q2279 (fun _ h9 => h9) rfl dX3_minute_233 ?_
                  refine lv_iload F.x F.cd dX3_minute_236 (lv_at hl 0 rfl) ?_
                  refine lv_iconst (v := (nI 2)) F.x F.cd dX3_minute_238 (by decide) ?_
                  refine a_iadd (v := (nI (30 + (7 * k) + 2))) F (nI_add _ _) dX3_minute_239 ?_
                  refine n_iald (i := 30 + (7 * k) + 2) (n := 114) (f := (fun x9 => nI ((va_up (va_up (va_up (va_up (va_up (flowsN (ar 0) k) (6 + (3 * (pA (flowsN (ar 0) k) k)) + 1) (tK (flowsN (ar 0) k) (pA (flowsN (ar 0) k) k) - (lit (flowsN (ar 0) k) k))) (6 + (3 * (pB (flowsN (ar 0) k) k)) + 1) (tK (flowsN (ar 0) k) (pB (flowsN (ar 0) k) k) + (lit (flowsN (ar 0) k) k - (min (lit (flowsN (ar 0) k) k) (pR (flowsN (ar 0) k) k))))) 5 ((flowsN (ar 0) k) 5 + (min (lit (flowsN (ar 0) k) k) (pR (flowsN (ar 0) k) k)))) (30 + (7 * k) + 6) (pL (flowsN (ar 0) k) k + (lit (flowsN (ar 0) k) k))) (6 + (3 * (pB (flowsN (ar 0) k) k)) + 2) (tI (flowsN (ar 0) k) (pB (flowsN (ar 0) k) k) ||| clr (tI (flowsN (ar 0) k) (pA (flowsN (ar 0) k) k)) (pM (flowsN (ar 0) k) k))) x9))) (x := (nI (pM (flowsN (ar 0) k) k))) F hW (w67) (by omega) (by omega) (by show nI _ = nI _; first | (rw [va_up_ne _ _ (by omega), va_up_ne _ _ (by omega), va_up_ne _ _ (by omega), va_up_ne _ _ (by omega), va_up_ne _ _ (by omega)]) | (rw [va_up_ne _ _ (by omega), va_up_ne _ _ (by omega), va_up_ne _ _ (by omega), va_up_ne _ _ (by omega)])) dX3_minute_240 ?_
                  refine a_iand (v := (nI (tI (flowsN (ar 0) k) (pA (flowsN (ar 0) k) k) &&& pM (flowsN (ar 0) k) k))) F (nI_and _ _) dX3_minute_241 ?_
                  refine s_callS (As := [.int (nI (tI (flowsN (ar 0) k) (pA (flowsN (ar 0) k) k) &&& pM (flowsN (ar 0) k) k))]) (rest := [.int (nI (pD (flowsN (ar 0) k) k)), .int (nI 20), .int (nI (30 + (7 * k) + 5)), .ref (A 0)]) (n := 1) F hW (k_J19_bitCount g l σ67 (nI (tI (flowsN (ar 0) k) (pA (flowsN (ar 0) k) k) &&& pM (flowsN (ar 0) k) k))) q2446 q2447 q92 q2448 (by decide +kernel) rfl ⟨⟨Nat.le_of_ble_eq_true rfl, Nat.le_of_ble_eq_true rfl⟩, ⟨(Nat.le_of_ble_eq_true rfl), (Nat.le_of_ble_eq_true rfl)⟩⟩ (Nat.le_of_ble_eq_true rfl) hl.1 rfl dX3_minute_242 cX_no (fun r76 σ76 H locs hp76 hW => ?_)
                  obtain ⟨rfl, hs76⟩ := hp76
                  rw [hs76] at hW
                  refine W.eq (g2 := F0 m_ 245 ls (.int (nI (pops (tI (flowsN (ar 0) k) (pA (flowsN (ar 0) k) k) &&& pM (flowsN (ar 0) k) k))) :: .int (nI (pD (flowsN (ar 0) k) k)) :: .int (nI 20) :: .int (nI (30 + (7 * k) + 5)) :: .ref (A 0) :: [])) (by rw [bcI_nI _ (Nat.lt_of_le_of_lt Nat.and_le_left (by omega))] <;> rfl) ?_
                  refine a_iadd (v := (nI (pD (flowsN (ar 0) k) k + (pops (tI (flowsN (ar 0) k) (pA (flowsN (ar 0) k) k) &&& pM (flowsN (ar 0) k) k))))) F (nI_add _ _) dX3_minute_245 ?_
                  refine s_mmin (v := (nI (min 20 (pD (flowsN (ar 0) k) k + (pops (tI (flowsN (ar 0) k) (pA (flowsN (ar 0) k) k) &&& pM (flowsN (ar 0) k) k)))))) F q2445 q453 q87 q454 hl.1 (Nat.le_of_ble_eq_true rfl) (Nat.le_of_ble_eq_true rfl) (Nat.le_of_ble_eq_true rfl) (Nat.le_of_ble_eq_true rfl) (nI_min (by omega) (by omega)) dX3_minute_246 ?_
                  refine n_iastN (i := 30 + (7 * k) + 5) F hW (w67) (tbb 0 (by decide)) (by omega) (by omega) dX3_minute_249 (fun H locs hW => ?_)
                  obtain ⟨σ77, hσ77⟩ : ∃ z, z = sset σ67 (A 0) (eI g 0 114 (fun x9 => nI ((va_up (va_up (va_up (va_up (va_up (va_up (flowsN (ar 0) k) (6 + (3 * (pA (flowsN (ar 0) k) k)) + 1) (tK (flowsN (ar 0) k) (pA (flowsN (ar 0) k) k) - (lit (flowsN (ar 0) k) k))) (6 + (3 * (pB (flowsN (ar 0) k) k)) + 1) (tK (flowsN (ar 0) k) (pB (flowsN (ar 0) k) k) + (lit (flowsN (ar 0) k) k - (min (lit (flowsN (ar 0) k) k) (pR (flowsN (ar 0) k) k))))) 5 ((flowsN (ar 0) k) 5 + (min (lit (flowsN (ar 0) k) k) (pR (flowsN (ar 0) k) k)))) (30 + (7 * k) + 6) (pL (flowsN (ar 0) k) k + (lit (flowsN (ar 0) k) k))) (6 + (3 * (pB (flowsN (ar 0) k) k)) + 2) (tI (flowsN (ar 0) k) (pB (flowsN (ar 0) k) k) ||| clr (tI (flowsN (ar 0) k) (pA (flowsN (ar 0) k) k)) (pM (flowsN (ar 0) k) k))) (30 + (7 * k) + 5) (min 20 (pD (flowsN (ar 0) k) k + (pops (tI (flowsN (ar 0) k) (pA (flowsN (ar 0) k) k) &&& pM (flowsN (ar 0) k) k))))) x9))) := ⟨_, rfl⟩
                  have hW : Hl g σ77 H locs := by rw [hσ77]; exact hW
                  have w77 : σ77 (A 0) = some (eI g 0 114 (fun x9 => nI ((va_up (va_up (va_up (va_up (va_up (va_up (flowsN (ar 0) k) (6 + (3 * (pA (flowsN (ar 0) k) k)) + 1) (tK (flowsN (ar 0) k) (pA (flowsN (ar 0) k) k) - (lit (flowsN (ar 0) k) k))) (6 + (3 * (pB (flowsN (ar 0) k) k)) + 1) (tK (flowsN (ar 0) k) (pB (flowsN (ar 0) k) k) + (lit (flowsN (ar 0) k) k - (min (lit (flowsN (ar 0) k) k) (pR (flowsN (ar 0) k) k))))) 5 ((flowsN (ar 0) k) 5 + (min (lit (flowsN (ar 0) k) k) (pR (flowsN (ar 0) k) k)))) (30 + (7 * k) + 6) (pL (flowsN (ar 0) k) k + (lit (flowsN (ar 0) k) k))) (6 + (3 * (pB (flowsN (ar 0) k) k)) + 2) (tI (flowsN (ar 0) k) (pB (flowsN (ar 0) k) k) ||| clr (tI (flowsN (ar 0) k) (pA (flowsN (ar 0) k) k)) (pM (flowsN (ar 0) k) k))) (30 + (7 * k) + 5) (min 20 (pD (flowsN (ar 0) k) k + (pops (tI (flowsN (ar 0) k) (pA (flowsN (ar 0) k) k) &&& pM (flowsN (ar 0) k) k))))) x9))) := by rw [hσ77]; exact sset_eq
                  have f78 : σ77 m = some (.inr (7, [.ref (A 0), .ref (A 1), .ref (A 2), .int (iv 3), .ref (A 3), .int (iv 5), .ref (A 4), .ref (A 5), .int (iv 8), .ref (A 6), .int (iv 10), .int (iv 11), .ref wd, .ref (A 7), .int (iv 14), .int (iv 15), .int (iv 16), .int (iv 17)])) := by rw [hσ77, sset_ne (sto_ne w67 f68 (by simp))]; exact f68
                  have f79 : σ77 (A 1) = some (eI g 0 114 (fun x9 => nI ((ar 1) x9))) := by rw [hσ77, sset_ne (fun q9 => absurd (tii 1 0 (by decide) (by decide) q9) (by decide))]; exact f69
                  have f80 : σ77 (A 2) = some (eI g 0 912 (fun x9 => nI ((ar 2) x9))) := by rw [hσ77, sset_ne (fun q9 => absurd (tii 2 0 (by decide) (by decide) q9) (by decide))]; exact f70
                  have f81 : σ77 (A 3) = some (eI g 0 114 (fun x9 => nI ((ar 3) x9))) := by rw [hσ77, sset_ne (fun q9 => absurd (tii 3 0 (by decide) (by decide) q9) (by decide))]; exact f71
                  have f82 : σ77 (A 4) = some (eI g 2 2048 (fun x9 => bI (rb x9))) := by rw [hσ77, sset_ne (fun q9 => absurd (tii 4 0 (by decide) (by decide) q9) (by decide))]; exact f72
                  have f83 : σ77 (A 5) = some (eI g 3 60 (fun x9 => nI ((ar 5) x9))) := by rw [hσ77, sset_ne (fun q9 => absurd (tii 5 0 (by decide) (by decide) q9) (by decide))]; exact f73
                  have f84 : σ77 (A 6) = some (eI g 3 60 (fun x9 => nI ((ar 6) x9))) := by rw [hσ77, sset_ne (fun q9 => absurd (tii 6 0 (by decide) (by decide) q9) (by decide))]; exact f74
                  have f85 : σ77 (A 7) = some (eI g 0 3 (fun x9 => nI ((ar 7) x9))) := by rw [hσ77, sset_ne (fun q9 => absurd (tii 7 0 (by decide) (by decide) q9) (by decide))]; exact f75
                  have tw86 : IsTw g σ77 m A iv wd (va_up ar 0 (va_up (va_up (va_up (va_up (va_up (va_up (flowsN (ar 0) k) (6 + (3 * (pA (flowsN (ar 0) k) k)) + 1) (tK (flowsN (ar 0) k) (pA (flowsN (ar 0) k) k) - (lit (flowsN (ar 0) k) k))) (6 + (3 * (pB (flowsN (ar 0) k) k)) + 1) (tK (flowsN (ar 0) k) (pB (flowsN (ar 0) k) k) + (lit (flowsN (ar 0) k) k - (min (lit (flowsN (ar 0) k) k) (pR (flowsN (ar 0) k) k))))) 5 ((flowsN (ar 0) k) 5 + (min (lit (flowsN (ar 0) k) k) (pR (flowsN (ar 0) k) k)))) (30 + (7 * k) + 6) (pL (flowsN (ar 0) k) k + (lit (flowsN (ar 0) k) k))) (6 + (3 * (pB (flowsN (ar 0) k) k)) + 2) (tI (flowsN (ar 0) k) (pB (flowsN (ar 0) k) k) ||| clr (tI (flowsN (ar 0) k) (pA (flowsN (ar 0) k) k)) (pM (flowsN (ar 0) k) k))) (30 + (7 * k) + 5) (min 20 (pD (flowsN (ar 0) k) k + (pops (tI (flowsN (ar 0) k) (pA (flowsN (ar 0) k) k) &&& pM (flowsN (ar 0) k) k)))))) rb := ⟨f78, tb0, w77, f79, f80, f81, f82, f83, f84, f85, tbb, tii⟩
                  have fm86 : Fm σ σ77 m A := by rw [hσ77, hσ67, hσ45, hσ36, hσ27, hσ18]; exact ((((((fmk).setA 0 (by decide)).setA 0 (by decide)).setA 0 (by decide)).setA 0 (by decide)).setA 0 (by decide)).setA 0 (by decide)
                  have tw_87 : IsTw g σ77 m A iv wd (va_up ar 0 (flowsN (ar 0) (k + 1))) rb := by
                    rw [show flowsN (ar 0) (k + 1) = flowv (flowsN (ar 0) k) k (lit (flowsN (ar 0) k) k) by rw [flowsN, if_pos hlp], ← tw_flow hs hd (by omega) (by omega) (by omega), twG]
                    first | rw [if_pos (by omega), twF] | rw [if_neg (by omega), twF]
                    exact ⟨f78, tb0, w77, f79, f80, f81, f82, f83, f84, f85, tbb, tii⟩
                  obtain ⟨t0_87, -, ta0_87, ta1_87, ta2_87, ta3_87, ta4_87, ta5_87, ta6_87, ta7_87, -, -⟩ := id tw_87
                  refine lv_iload_n F.x F.cd dX3_minute_250 rfl (lv_at hl 7 rfl) ?_
                  refine lv_iload F.x F.cd dX3_minute_251 (lv_at hl 2 rfl) ?_
                  refine a_iadd (v := (nI (flN (ar 0) k + (lit (flowsN (ar 0) k) k)))) F (nI_add _ _) dX3_minute_253 ?_
                  refine lv_istore_n (lv' := [(1, .int (nI (flN (ar 0) k + (lit (flowsN (ar 0) k) k)))), (8, .int (nI (30 + (7 * k)))), (7, .int (nI (min (lit (flowsN (ar 0) k) k) (pR (flowsN (ar 0) k) k)))), (6, .int (nI (lit (flowsN (ar 0) k) k))), (5, .int (nI (6 + (3 * (pB (flowsN (ar 0) k) k))))), (4, .int (nI (6 + (3 * (pA (flowsN (ar 0) k) k))))), (3, .int (nI (lit (flowsN (ar 0) k) k))), (0, .ref m), (2, .int (nI k))]) F.x F.cd dX3_minute_254 rfl hl (by decide) rfl (fun ls hl => ?_)
                  have hl : lv_has ls 9 [(1, .int (nI (flN (ar 0) (k + 1)))), (8, .int (nI (30 + (7 * k)))), (7, .int (nI (min (lit (flowsN (ar 0) k) k) (pR (flowsN (ar 0) k) k)))), (6, .int (nI (lit (flowsN (ar 0) k) k))), (5, .int (nI (6 + (3 * (pB (flowsN (ar 0) k) k))))), (4, .int (nI (6 + (3 * (pA (flowsN (ar 0) k) k))))), (3, .int (nI (lit (flowsN (ar 0) k) k))), (0, .ref m), (2, .int (nI k))] := by rw [show flN (ar 0) (k + 1) = flN (ar 0) k + lit (flowsN (ar 0) k) k from rfl]; exact hl
                  refine lv_iinc (k := 8) (v := (nI (k + 1))) (lv' := [(2, .int (nI (k + 1))), (1, .int (nI (flN (ar 0) (k + 1)))), (8, .int (nI (30 + (7 * k)))), (7, .int (nI (min (lit (flowsN (ar 0) k) k) (pR (flowsN (ar 0) k) k)))), (6, .int (nI (lit (flowsN (ar 0) k) k))), (5, .int (nI (6 + (3 * (pB (flowsN (ar 0) k) k))))), (4, .int (nI (6 + (3 * (pA (flowsN (ar 0) k) k))))), (3, .int (nI (lit (flowsN (ar 0) k) k))), (0, .ref m)]) F.x F.cd dX3_minute_255 hl rfl (inc_nI k 1) (by decide) rfl (fun ls hl => ?_)
                  refine lv_goto (tgt := 14) F.x F.cd dX3_minute_258 (by decide) ?_
                  exact ih14 (k + 1) σ77 (by omega) (tw_87) (fm86) H locs ls hW (lv_sub hl [8, 1, 0] rfl)
          · have hs : srcv (flowsN (ar 0) k) k = (pB (flowsN (ar 0) k) k) := if_neg hf
            have hd : dstv (flowsN (ar 0) k) k = (pA (flowsN (ar 0) k) k) := if_neg hf
            rw [hs, hd] at hlb
            have hp8 := pops_lt (tI (flowsN (ar 0) k) (pB (flowsN (ar 0) k) k) &&& pM (flowsN (ar 0) k) k) (Nat.lt_of_le_of_lt Nat.and_le_left (by omega))
            have hl : lv_has ls 9 [(3, .int (-nI (lit (flowsN (ar 0) k) k))), (0, .ref m), (1, .int (nI (flN (ar 0) k))), (2, .int (nI k))] := by rw [← show lits (flowsN (ar 0) k) k = -nI (lit (flowsN (ar 0) k) k) from if_neg hf]; exact hl
            refine lv_bipush (v := (nI 6)) F.x F.cd dX3_minute_37 (by decide) ?_
            refine lv_iconst (v := (nI 3)) F.x F.cd dX3_minute_39 (by decide) ?_
            refine lv_aload_n F.x F.cd dX3_minute_40 rfl (lv_at hl 1 rfl) ?_
            refine lv_iload_n F.x F.cd dX3_minute_41 rfl (lv_at hl 3 rfl) ?_
            refine lv_iload_n F.x F.cd dX3_minute_42 rfl (lv_at hl 0 rfl) ?_
            refine lv_if_le (x := (-nI (lit (flowsN (ar 0) k) k))) (tgt := 50) F.x F.cd dX3_minute_43 (by decide) (fun c_43 => ?_) (fun c_43 => ?_)
            · refine lv_iconst (v := (nI 1)) F.x F.cd dX3_minute_50 (by decide) ?_
              refine s_callV (As := [.int (nI k), .int (nI 1)]) (rest := [.int (nI 3), .int (nI 6)]) (C := RX3) (T := TX3) (N := 18) (n := 2) F hW (k_X3_pipe g l σk m A _ _ _ _ k 1 twk (by omega) (by omega)) (t0_k12) rfl q2406 q2408 qs44 q79 q2409 rfl (by decide +kernel) rfl ⟨⟨Nat.le_of_ble_eq_true rfl, Nat.le_of_ble_eq_true rfl⟩, ⟨(Nat.le_of_ble_eq_true rfl), (Nat.le_of_ble_eq_true rfl)⟩⟩ (Nat.le_of_ble_eq_true rfl) hl.1 rfl dX3_minute_51 cX_no (fun r89 σ89 H locs hp89 hW => ?_)
              obtain ⟨rfl, hs89⟩ := hp89
              rw [hs89] at hW
              refine W.eq (g2 := F0 m_ 54 ls (.int (nI (pB (flowsN (ar 0) k) k)) :: .int (nI 3) :: .int (nI 6) :: [])) rfl ?_
              refine a_imul (v := (nI (3 * (pB (flowsN (ar 0) k) k)))) F (pk_mul _ _) dX3_minute_54 ?_
              refine a_iadd (v := (nI (6 + (3 * (pB (flowsN (ar 0) k) k))))) F (nI_add _ _) dX3_minute_55 ?_
              refine lv_istore (lv' := [(4, .int (nI (6 + (3 * (pB (flowsN (ar 0) k) k))))), (3, .int (-nI (lit (flowsN (ar 0) k) k))), (0, .ref m), (1, .int (nI (flN (ar 0) k))), (2, .int (nI k))]) F.x F.cd dX3_minute_56 hl (by decide) rfl (fun ls hl => ?_)
              refine lv_bipush (v := (nI 6)) F.x F.cd dX3_minute_58 (by decide) ?_
              refine lv_iconst (v := (nI 3)) F.x F.cd dX3_minute_60 (by decide) ?_
              refine lv_aload_n F.x F.cd dX3_minute_61 rfl (lv_at hl 2 rfl) ?_
              refine lv_iload_n F.x F.cd dX3_minute_62 rfl (lv_at hl 4 rfl) ?_
              refine lv_iload_n F.x F.cd dX3_minute_63 rfl (lv_at hl 1 rfl) ?_
              refine lv_if_le (x := (-nI (lit (flowsN (ar 0) k) k))) (tgt := 71) F.x F.cd dX3_minute_64 (by decide) (fun c_64 => ?_) (fun c_64 => ?_)
              · refine lv_iconst (v := (nI 0)) F.x F.cd dX3_minute_71 (by decide) ?_
                refine s_callV (As := [.int (nI k), .int (nI 0)]) (rest := [.int (nI 3), .int (nI 6)]) (C := RX3) (T := TX3) (N := 18) (n := 2) F hW (k_X3_pipe g l σk m A _ _ _ _ k 0 twk (by omega) (by omega)) (t0_k12) rfl q2406 q2408 qs44 q79 q2409 rfl (by decide +kernel) rfl ⟨⟨Nat.le_of_ble_eq_true rfl, Nat.le_of_ble_eq_true rfl⟩, ⟨(Nat.le_of_ble_eq_true rfl), (Nat.le_of_ble_eq_true rfl)⟩⟩ (Nat.le_of_ble_eq_true rfl) hl.1 rfl dX3_minute_72 cX_no (fun r90 σ90 H locs hp90 hW => ?_)
                obtain ⟨rfl, hs90⟩ := hp90
                rw [hs90] at hW
                refine W.eq (g2 := F0 m_ 75 ls (.int (nI (pA (flowsN (ar 0) k) k)) :: .int (nI 3) :: .int (nI 6) :: [])) rfl ?_
                refine a_imul (v := (nI (3 * (pA (flowsN (ar 0) k) k)))) F (pk_mul _ _) dX3_minute_75 ?_
                refine a_iadd (v := (nI (6 + (3 * (pA (flowsN (ar 0) k) k))))) F (nI_add _ _) dX3_minute_76 ?_
                refine lv_istore (lv' := [(5, .int (nI (6 + (3 * (pA (flowsN (ar 0) k) k))))), (4, .int (nI (6 + (3 * (pB (flowsN (ar 0) k) k))))), (3, .int (-nI (lit (flowsN (ar 0) k) k))), (0, .ref m), (1, .int (nI (flN (ar 0) k))), (2, .int (nI k))]) F.x F.cd dX3_minute_77 hl (by decide) rfl (fun ls hl => ?_)
                refine lv_iload_n F.x F.cd dX3_minute_79 rfl (lv_at hl 2 rfl) ?_
                refine s_mabs (v := (nI (lit (flowsN (ar 0) k) k))) F q2442 q2443 q87 q2444 hl.1 (Nat.le_of_ble_eq_true rfl) (Nat.le_of_ble_eq_true rfl) (Nat.le_of_ble_eq_true rfl) (Nat.le_of_ble_eq_true rfl) (n_absn (by omega)) dX3_minute_80 ?_
                refine lv_istore (lv' := [(6, .int (nI (lit (flowsN (ar 0) k) k))), (5, .int (nI (6 + (3 * (pA (flowsN (ar 0) k) k))))), (4, .int (nI (6 + (3 * (pB (flowsN (ar 0) k) k))))), (3, .int (-nI (lit (flowsN (ar 0) k) k))), (0, .ref m), (1, .int (nI (flN (ar 0) k))), (2, .int (nI k))]) F.x F.cd dX3_minute_83 hl (by decide) rfl (fun ls hl => ?_)
                refine lv_iload F.x F.cd dX3_minute_85 (lv_at hl 0 rfl) ?_
                refine lv_aload_n F.x F.cd dX3_minute_87 rfl (lv_at hl 4 rfl) ?_
                refine lv_iload_n F.x F.cd dX3_minute_88 rfl (lv_at hl 6 rfl) ?_
                refine lv_iconst (v := (nI 4)) F.x F.cd dX3_minute_89 (by decide) ?_
                refine s_callV (As := [.int (nI k), .int (nI 4)]) (rest := [.int (nI (lit (flowsN (ar 0) k) k))]) (C := RX3) (T := TX3) (N := 18) (n := 2) F hW (k_X3_pipe g l σk m A _ _ _ _ k 4 twk (by omega) (by omega)) (t0_k12) rfl q2406 q2408 qs44 q79 q2409 rfl (by decide +kernel) rfl ⟨⟨Nat.le_of_ble_eq_true rfl, Nat.le_of_ble_eq_true rfl⟩, ⟨(Nat.le_of_ble_eq_true rfl), (Nat.le_of_ble_eq_true rfl)⟩⟩ (Nat.le_of_ble_eq_true rfl) hl.1 rfl dX3_minute_90 cX_no (fun r91 σ91 H locs hp91 hW => ?_)
                obtain ⟨rfl, hs91⟩ := hp91
                rw [hs91] at hW
                refine W.eq (g2 := F0 m_ 93 ls (.int (nI (pR (flowsN (ar 0) k) k)) :: .int (nI (lit (flowsN (ar 0) k) k)) :: [])) rfl ?_
                refine s_mmin (v := (nI (min (lit (flowsN (ar 0) k) k) (pR (flowsN (ar 0) k) k)))) F q2445 q453 q87 q454 hl.1 (Nat.le_of_ble_eq_true rfl) (Nat.le_of_ble_eq_true rfl) (Nat.le_of_ble_eq_true rfl) (Nat.le_of_ble_eq_true rfl) (nI_min (by omega) (by omega)) dX3_minute_93 ?_
                refine lv_istore (lv' := [(7, .int (nI (min (lit (flowsN (ar 0) k) k) (pR (flowsN (ar 0) k) k)))), (6, .int (nI (lit (flowsN (ar 0) k) k))), (5, .int (nI (6 + (3 * (pA (flowsN (ar 0) k) k))))), (4, .int (nI (6 + (3 * (pB (flowsN (ar 0) k) k))))), (3, .int (-nI (lit (flowsN (ar 0) k) k))), (0, .ref m), (1, .int (nI (flN (ar 0) k))), (2, .int (nI k))]) F.x F.cd dX3_minute_96 hl (by decide) rfl (fun ls hl => ?_)
                refine lv_bipush (v := (nI 30)) F.x F.cd dX3_minute_98 (by decide) ?_
                refine lv_bipush (v := (nI 7)) F.x F.cd dX3_minute_100 (by decide) ?_
                refine lv_iload_n F.x F.cd dX3_minute_102 rfl (lv_at hl 7 rfl) ?_
                refine a_imul (v := (nI (7 * k))) F (pk_mul _ _) dX3_minute_103 ?_
                refine a_iadd (v := (nI (30 + (7 * k)))) F (nI_add _ _) dX3_minute_104 ?_
                refine lv_istore (lv' := [(8, .int (nI (30 + (7 * k)))), (7, .int (nI (min (lit (flowsN (ar 0) k) k) (pR (flowsN (ar 0) k) k)))), (6, .int (nI (lit (flowsN (ar 0) k) k))), (5, .int (nI (6 + (3 * (pA (flowsN (ar 0) k) k))))), (4, .int (nI (6 + (3 * (pB (flowsN (ar 0) k) k))))), (3, .int (-nI (lit (flowsN (ar 0) k) k))), (0, .ref m), (1, .int (nI (flN (ar 0) k))), (2, .int (nI k))]) F.x F.cd dX3_minute_105 hl (by decide) rfl (fun ls hl => ?_)
                refine lv_aload_n F.x F.cd dX3_minute_107 rfl (lv_at hl 6 rfl) ?_
                refine s_get F hW (ci := 7) (C := RX3) (T := TX3) (N := 18) (v := .ref (A 0)) (t0_k12) rfl in_X3 0 (by decide) q2279 (fun _ h9 => h9) rfl dX3_minute_108 ?_
                refine lv_iload F.x F.cd dX3_minute_111 (lv_at hl 4 rfl) ?_
                refine lv_iconst (v := (nI 1)) F.x F.cd dX3_minute_113 (by decide) ?_
                refine a_iadd (v := (nI (6 + (3 * (pB (flowsN (ar 0) k) k)) + 1))) F (nI_add _ _) dX3_minute_114 ?_
                refine lv_dup2_11 F.x F.cd dX3_minute_115 rfl rfl ?_
                refine n_iald (i := 6 + (3 * (pB (flowsN (ar 0) k) k)) + 1) (n := 114) (f := (fun x9 => nI ((flowsN (ar 0) k) x9))) (x := (nI (tK (flowsN (ar 0) k) (pB (flowsN (ar 0) k) k)))) F hW (ta0_k12) (by omega) (by omega) (rfl) dX3_minute_116 ?_
                refine lv_iload F.x F.cd dX3_minute_117 (lv_at hl 2 rfl) ?_
                refine a_isub (v := (nI (tK (flowsN (ar 0) k) (pB (flowsN (ar 0) k) k) - (lit (flowsN (ar 0) k) k)))) F (pk_sub (by omega)) dX3_minute_119 ?_
                refine n_iastN (i := 6 + (3 * (pB (flowsN (ar 0) k) k)) + 1) F hW (ta0_k12) (tbb 0 (by decide)) (by omega) (by omega) dX3_minute_120 (fun H locs hW => ?_)
                obtain ⟨σ92, hσ92⟩ : ∃ z, z = sset σk (A 0) (eI g 0 114 (fun x9 => nI ((va_up (flowsN (ar 0) k) (6 + (3 * (pB (flowsN (ar 0) k) k)) + 1) (tK (flowsN (ar 0) k) (pB (flowsN (ar 0) k) k) - (lit (flowsN (ar 0) k) k))) x9))) := ⟨_, rfl⟩
                have hW : Hl g σ92 H locs := by rw [hσ92]; exact hW
                have w92 : σ92 (A 0) = some (eI g 0 114 (fun x9 => nI ((va_up (flowsN (ar 0) k) (6 + (3 * (pB (flowsN (ar 0) k) k)) + 1) (tK (flowsN (ar 0) k) (pB (flowsN (ar 0) k) k) - (lit (flowsN (ar 0) k) k))) x9))) := by rw [hσ92]; exact sset_eq
                have f93 : σ92 m = some (.inr (7, [.ref (A 0), .ref (A 1), .ref (A 2), .int (iv 3), .ref (A 3), .int (iv 5), .ref (A 4), .ref (A 5), .int (iv 8), .ref (A 6), .int (iv 10), .int (iv 11), .ref wd, .ref (A 7), .int (iv 14), .int (iv 15), .int (iv 16), .int (iv 17)])) := by rw [hσ92, sset_ne (sto_ne ta0_k12 t0_k12 (by simp))]; exact t0_k12
                have f94 : σ92 (A 1) = some (eI g 0 114 (fun x9 => nI ((ar 1) x9))) := by rw [hσ92, sset_ne (fun q9 => absurd (tii 1 0 (by decide) (by decide) q9) (by decide))]; exact ta1_k12
                have f95 : σ92 (A 2) = some (eI g 0 912 (fun x9 => nI ((ar 2) x9))) := by rw [hσ92, sset_ne (fun q9 => absurd (tii 2 0 (by decide) (by decide) q9) (by decide))]; exact ta2_k12
                have f96 : σ92 (A 3) = some (eI g 0 114 (fun x9 => nI ((ar 3) x9))) := by rw [hσ92, sset_ne (fun q9 => absurd (tii 3 0 (by decide) (by decide) q9) (by decide))]; exact ta3_k12
                have f97 : σ92 (A 4) = some (eI g 2 2048 (fun x9 => bI (rb x9))) := by rw [hσ92, sset_ne (fun q9 => absurd (tii 4 0 (by decide) (by decide) q9) (by decide))]; exact ta4_k12
                have f98 : σ92 (A 5) = some (eI g 3 60 (fun x9 => nI ((ar 5) x9))) := by rw [hσ92, sset_ne (fun q9 => absurd (tii 5 0 (by decide) (by decide) q9) (by decide))]; exact ta5_k12
                have f99 : σ92 (A 6) = some (eI g 3 60 (fun x9 => nI ((ar 6) x9))) := by rw [hσ92, sset_ne (fun q9 => absurd (tii 6 0 (by decide) (by decide) q9) (by decide))]; exact ta6_k12
                have f100 : σ92 (A 7) = some (eI g 0 3 (fun x9 => nI ((ar 7) x9))) := by rw [hσ92, sset_ne (fun q9 => absurd (tii 7 0 (by decide) (by decide) q9) (by decide))]; exact ta7_k12
                refine lv_aload_n F.x F.cd dX3_minute_121 rfl (lv_at hl 6 rfl) ?_
                refine s_get F hW (ci := 7) (C := RX3) (T := TX3) (N := 18) (v := .ref (A 0)) (f93) rfl in_X3 0 (by decide) q2279 (fun _ h9 => h9) rfl dX3_minute_122 ?_
                refine lv_iload F.x F.cd dX3_minute_125 (lv_at hl 3 rfl) ?_
                refine lv_iconst (v := (nI 1)) F.x F.cd dX3_minute_127 (by decide) ?_
                refine a_iadd (v := (nI (6 + (3 * (pA (flowsN (ar 0) k) k)) + 1))) F (nI_add _ _) dX3_minute_128 ?_
                refine lv_dup2_11 F.x F.cd dX3_minute_129 rfl rfl ?_
                refine n_iald (i := 6 + (3 * (pA (flowsN (ar 0) k) k)) + 1) (n := 114) (f := (fun x9 => nI ((va_up (flowsN (ar 0) k) (6 + (3 * (pB (flowsN (ar 0) k) k)) + 1) (tK (flowsN (ar 0) k) (pB (flowsN (ar 0) k) k) - (lit (flowsN (ar 0) k) k))) x9))) (x := (nI (tK (flowsN (ar 0) k) (pA (flowsN (ar 0) k) k)))) F hW (w92) (by omega) (by omega) (by show nI _ = nI _; rw [va_up_ne _ _ (by omega)]) dX3_minute_130 ?_
                refine lv_iload F.x F.cd dX3_minute_131 (lv_at hl 2 rfl) ?_
                refine lv_iload F.x F.cd dX3_minute_133 (lv_at hl 1 rfl) ?_
                refine a_isub (v := (nI (lit (flowsN (ar 0) k) k - (min (lit (flowsN (ar 0) k) k) (pR (flowsN (ar 0) k) k))))) F (pk_sub (by omega)) dX3_minute_135 ?_
                refine a_iadd (v := (nI (tK (flowsN (ar 0) k) (pA (flowsN (ar 0) k) k) + (lit (flowsN (ar 0) k) k - (min (lit (flowsN (ar 0) k) k) (pR (flowsN (ar 0) k) k)))))) F (nI_add _ _) dX3_minute_136 ?_
                refine n_iastN (i := 6 + (3 * (pA (flowsN (ar 0) k) k)) + 1) F hW (w92) (tbb 0 (by decide)) (by omega) (by omega) dX3_minute_137 (fun H locs hW => ?_)
                obtain ⟨σ101, hσ101⟩ : ∃ z, z = sset σ92 (A 0) (eI g 0 114 (fun x9 => nI ((va_up (va_up (flowsN (ar 0) k) (6 + (3 * (pB (flowsN (ar 0) k) k)) + 1) (tK (flowsN (ar 0) k) (pB (flowsN (ar 0) k) k) - (lit (flowsN (ar 0) k) k))) (6 + (3 * (pA (flowsN (ar 0) k) k)) + 1) (tK (flowsN (ar 0) k) (pA (flowsN (ar 0) k) k) + (lit (flowsN (ar 0) k) k - (min (lit (flowsN (ar 0) k) k) (pR (flowsN (ar 0) k) k))))) x9))) := ⟨_, rfl⟩
                have hW : Hl g σ101 H locs := by rw [hσ101]; exact hW
                have w101 : σ101 (A 0) = some (eI g 0 114 (fun x9 => nI ((va_up (va_up (flowsN (ar 0) k) (6 + (3 * (pB (flowsN (ar 0) k) k)) + 1) (tK (flowsN (ar 0) k) (pB (flowsN (ar 0) k) k) - (lit (flowsN (ar 0) k) k))) (6 + (3 * (pA (flowsN (ar 0) k) k)) + 1) (tK (flowsN (ar 0) k) (pA (flowsN (ar 0) k) k) + (lit (flowsN (ar 0) k) k - (min (lit (flowsN (ar 0) k) k) (pR (flowsN (ar 0) k) k))))) x9))) := by rw [hσ101]; exact sset_eq
                have f102 : σ101 m = some (.inr (7, [.ref (A 0), .ref (A 1), .ref (A 2), .int (iv 3), .ref (A 3), .int (iv 5), .ref (A 4), .ref (A 5), .int (iv 8), .ref (A 6), .int (iv 10), .int (iv 11), .ref wd, .ref (A 7), .int (iv 14), .int (iv 15), .int (iv 16), .int (iv 17)])) := by rw [hσ101, sset_ne (sto_ne w92 f93 (by simp))]; exact f93
                have f103 : σ101 (A 1) = some (eI g 0 114 (fun x9 => nI ((ar 1) x9))) := by rw [hσ101, sset_ne (fun q9 => absurd (tii 1 0 (by decide) (by decide) q9) (by decide))]; exact f94
                have f104 : σ101 (A 2) = some (eI g 0 912 (fun x9 => nI ((ar 2) x9))) := by rw [hσ101, sset_ne (fun q9 => absurd (tii 2 0 (by decide) (by decide) q9) (by decide))]; exact f95
                have f105 : σ101 (A 3) = some (eI g 0 114 (fun x9 => nI ((ar 3) x9))) := by rw [hσ101, sset_ne (fun q9 => absurd (tii 3 0 (by decide) (by decide) q9) (by decide))]; exact f96
                have f106 : σ101 (A 4) = some (eI g 2 2048 (fun x9 => bI (rb x9))) := by rw [hσ101, sset_ne (fun q9 => absurd (tii 4 0 (by decide) (by decide) q9) (by decide))]; exact f97
                have f107 : σ101 (A 5) = some (eI g 3 60 (fun x9 => nI ((ar 5) x9))) := by rw [hσ101, sset_ne (fun q9 => absurd (tii 5 0 (by decide) (by decide) q9) (by decide))]; exact f98
                have f108 : σ101 (A 6) = some (eI g 3 60 (fun x9 => nI ((ar 6) x9))) := by rw [hσ101, sset_ne (fun q9 => absurd (tii 6 0 (by decide) (by decide) q9) (by decide))]; exact f99
                have f109 : σ101 (A 7) = some (eI g 0 3 (fun x9 => nI ((ar 7) x9))) := by rw [hσ101, sset_ne (fun q9 => absurd (tii 7 0 (by decide) (by decide) q9) (by decide))]; exact f100
                refine lv_aload_n F.x F.cd dX3_minute_138 rfl (lv_at hl 6 rfl) ?_
                refine s_get F hW (ci := 7) (C := RX3) (T := TX3) (N := 18) (v := .ref (A 0)) (f102) rfl in_X3 0 (by decide) q2279 (fun _ h9 => h9) rfl dX3_minute_139 ?_
                refine lv_iconst (v := (nI 5)) F.x F.cd dX3_minute_142 (by decide) ?_
                refine lv_dup2_11 F.x F.cd dX3_minute_143 rfl rfl ?_
                refine n_iald (i := 5) (n := 114) (f := (fun x9 => nI ((va_up (va_up (flowsN (ar 0) k) (6 + (3 * (pB (flowsN (ar 0) k) k)) + 1) (tK (flowsN (ar 0) k) (pB (flowsN (ar 0) k) k) - (lit (flowsN (ar 0) k) k))) (6 + (3 * (pA (flowsN (ar 0) k) k)) + 1) (tK (flowsN (ar 0) k) (pA (flowsN (ar 0) k) k) + (lit (flowsN (ar 0) k) k - (min (lit (flowsN (ar 0) k) k) (pR (flowsN (ar 0) k) k))))) x9))) (x := (nI ((flowsN (ar 0) k) 5))) F hW (w101) (by omega) (by omega) (by show nI _ = nI _; rw [va_up_ne _ _ (by omega), va_up_ne _ _ (by omega)]) dX3_minute_144 ?_
                refine lv_iload F.x F.cd dX3_minute_145 (lv_at hl 1 rfl) ?_
                refine a_iadd (v := (nI ((flowsN (ar 0) k) 5 + (min (lit (flowsN (ar 0) k) k) (pR (flowsN (ar 0) k) k))))) F (nI_add _ _) dX3_minute_147 ?_
                refine n_iastN (i := 5) F hW (w101) (tbb 0 (by decide)) (by omega) (by omega) dX3_minute_148 (fun H locs hW => ?_)
                obtain ⟨σ110, hσ110⟩ : ∃ z, z = sset σ101 (A 0) (eI g 0 114 (fun x9 => nI ((va_up (va_up (va_up (flowsN (ar 0) k) (6 + (3 * (pB (flowsN (ar 0) k) k)) + 1) (tK (flowsN (ar 0) k) (pB (flowsN (ar 0) k) k) - (lit (flowsN (ar 0) k) k))) (6 + (3 * (pA (flowsN (ar 0) k) k)) + 1) (tK (flowsN (ar 0) k) (pA (flowsN (ar 0) k) k) + (lit (flowsN (ar 0) k) k - (min (lit (flowsN (ar 0) k) k) (pR (flowsN (ar 0) k) k))))) 5 ((flowsN (ar 0) k) 5 + (min (lit (flowsN (ar 0) k) k) (pR (flowsN (ar 0) k) k)))) x9))) := ⟨_, rfl⟩
                have hW : Hl g σ110 H locs := by rw [hσ110]; exact hW
                have w110 : σ110 (A 0) = some (eI g 0 114 (fun x9 => nI ((va_up (va_up (va_up (flowsN (ar 0) k) (6 + (3 * (pB (flowsN (ar 0) k) k)) + 1) (tK (flowsN (ar 0) k) (pB (flowsN (ar 0) k) k) - (lit (flowsN (ar 0) k) k))) (6 + (3 * (pA (flowsN (ar 0) k) k)) + 1) (tK (flowsN (ar 0) k) (pA (flowsN (ar 0) k) k) + (lit (flowsN (ar 0) k) k - (min (lit (flowsN (ar 0) k) k) (pR (flowsN (ar 0) k) k))))) 5 ((flowsN (ar 0) k) 5 + (min (lit (flowsN (ar 0) k) k) (pR (flowsN (ar 0) k) k)))) x9))) := by rw [hσ110]; exact sset_eq
                have f111 : σ110 m = some (.inr (7, [.ref (A 0), .ref (A 1), .ref (A 2), .int (iv 3), .ref (A 3), .int (iv 5), .ref (A 4), .ref (A 5), .int (iv 8), .ref (A 6), .int (iv 10), .int (iv 11), .ref wd, .ref (A 7), .int (iv 14), .int (iv 15), .int (iv 16), .int (iv 17)])) := by rw [hσ110, sset_ne (sto_ne w101 f102 (by simp))]; exact f102
                have f112 : σ110 (A 1) = some (eI g 0 114 (fun x9 => nI ((ar 1) x9))) := by rw [hσ110, sset_ne (fun q9 => absurd (tii 1 0 (by decide) (by decide) q9) (by decide))]; exact f103
                have f113 : σ110 (A 2) = some (eI g 0 912 (fun x9 => nI ((ar 2) x9))) := by rw [hσ110, sset_ne (fun q9 => absurd (tii 2 0 (by decide) (by decide) q9) (by decide))]; exact f104
                have f114 : σ110 (A 3) = some (eI g 0 114 (fun x9 => nI ((ar 3) x9))) := by rw [hσ110, sset_ne (fun q9 => absurd (tii 3 0 (by decide) (by decide) q9) (by decide))]; exact f105
                have f115 : σ110 (A 4) = some (eI g 2 2048 (fun x9 => bI (rb x9))) := by rw [hσ110, sset_ne (fun q9 => absurd (tii 4 0 (by decide) (by decide) q9) (by decide))]; exact f106
                have f116 : σ110 (A 5) = some (eI g 3 60 (fun x9 => nI ((ar 5) x9))) := by rw [hσ110, sset_ne (fun q9 => absurd (tii 5 0 (by decide) (by decide) q9) (by decide))]; exact f107
                have f117 : σ110 (A 6) = some (eI g 3 60 (fun x9 => nI ((ar 6) x9))) := by rw [hσ110, sset_ne (fun q9 => absurd (tii 6 0 (by decide) (by decide) q9) (by decide))]; exact f108
                have f118 : σ110 (A 7) = some (eI g 0 3 (fun x9 => nI ((ar 7) x9))) := by rw [hσ110, sset_ne (fun q9 => absurd (tii 7 0 (by decide) (by decide) q9) (by decide))]; exact f109
                refine lv_aload_n F.x F.cd dX3_minute_149 rfl (lv_at hl 6 rfl) ?_
                refine s_get F hW (ci := 7) (C := RX3) (T := TX3) (N := 18) (v := .ref (A 0)) (f111) rfl in_X3 0 (by decide) q2279 (fun _ h9 => h9) rfl dX3_minute_150 ?_
                refine lv_iload F.x F.cd dX3_minute_153 (lv_at hl 0 rfl) ?_
                refine lv_bipush (v := (nI 6)) F.x F.cd dX3_minute_155 (by decide) ?_
                refine a_iadd (v := (nI (30 + (7 * k) + 6))) F (nI_add _ _) dX3_minute_157 ?_
                refine lv_dup2_11 F.x F.cd dX3_minute_158 rfl rfl ?_
                refine n_iald (i := 30 + (7 * k) + 6) (n := 114) (f := (fun x9 => nI ((va_up (va_up (va_up (flowsN (ar 0) k) (6 + (3 * (pB (flowsN (ar 0) k) k)) + 1) (tK (flowsN (ar 0) k) (pB (flowsN (ar 0) k) k) - (lit (flowsN (ar 0) k) k))) (6 + (3 * (pA (flowsN (ar 0) k) k)) + 1) (tK (flowsN (ar 0) k) (pA (flowsN (ar 0) k) k) + (lit (flowsN (ar 0) k) k - (min (lit (flowsN (ar 0) k) k) (pR (flowsN (ar 0) k) k))))) 5 ((flowsN (ar 0) k) 5 + (min (lit (flowsN (ar 0) k) k) (pR (flowsN (ar 0) k) k)))) x9))) (x := (nI (pL (flowsN (ar 0) k) k))) F hW (w110) (by omega) (by omega) (by show nI _ = nI _; rw [va_up_ne _ _ (by omega), va_up_ne _ _ (by omega), va_up_ne _ _ (by omega)]) dX3_minute_159 ?_
                refine lv_iload F.x F.cd dX3_minute_160 (lv_at hl 2 rfl) ?_
                refine a_iadd (v := (nI (pL (flowsN (ar 0) k) k + (lit (flowsN (ar 0) k) k)))) F (nI_add _ _) dX3_minute_162 ?_
                refine n_iastN (i := 30 + (7 * k) + 6) F hW (w110) (tbb 0 (by decide)) (by omega) (by omega) dX3_minute_163 (fun H locs hW => ?_)
                obtain ⟨σ119, hσ119⟩ : ∃ z, z = sset σ110 (A 0) (eI g 0 114 (fun x9 => nI ((va_up (va_up (va_up (va_up (flowsN (ar 0) k) (6 + (3 * (pB (flowsN (ar 0) k) k)) + 1) (tK (flowsN (ar 0) k) (pB (flowsN (ar 0) k) k) - (lit (flowsN (ar 0) k) k))) (6 + (3 * (pA (flowsN (ar 0) k) k)) + 1) (tK (flowsN (ar 0) k) (pA (flowsN (ar 0) k) k) + (lit (flowsN (ar 0) k) k - (min (lit (flowsN (ar 0) k) k) (pR (flowsN (ar 0) k) k))))) 5 ((flowsN (ar 0) k) 5 + (min (lit (flowsN (ar 0) k) k) (pR (flowsN (ar 0) k) k)))) (30 + (7 * k) + 6) (pL (flowsN (ar 0) k) k + (lit (flowsN (ar 0) k) k))) x9))) := ⟨_, rfl⟩
                have hW : Hl g σ119 H locs := by rw [hσ119]; exact hW
                have w119 : σ119 (A 0) = some (eI g 0 114 (fun x9 => nI ((va_up (va_up (va_up (va_up (flowsN (ar 0) k) (6 + (3 * (pB (flowsN (ar 0) k) k)) + 1) (tK (flowsN (ar 0) k) (pB (flowsN (ar 0) k) k) - (lit (flowsN (ar 0) k) k))) (6 + (3 * (pA (flowsN (ar 0) k) k)) + 1) (tK (flowsN (ar 0) k) (pA (flowsN (ar 0) k) k) + (lit (flowsN (ar 0) k) k - (min (lit (flowsN (ar 0) k) k) (pR (flowsN (ar 0) k) k))))) 5 ((flowsN (ar 0) k) 5 + (min (lit (flowsN (ar 0) k) k) (pR (flowsN (ar 0) k) k)))) (30 + (7 * k) + 6) (pL (flowsN (ar 0) k) k + (lit (flowsN (ar 0) k) k))) x9))) := by rw [hσ119]; exact sset_eq
                have f120 : σ119 m = some (.inr (7, [.ref (A 0), .ref (A 1), .ref (A 2), .int (iv 3), .ref (A 3), .int (iv 5), .ref (A 4), .ref (A 5), .int (iv 8), .ref (A 6), .int (iv 10), .int (iv 11), .ref wd, .ref (A 7), .int (iv 14), .int (iv 15), .int (iv 16), .int (iv 17)])) := by rw [hσ119, sset_ne (sto_ne w110 f111 (by simp))]; exact f111
                have f121 : σ119 (A 1) = some (eI g 0 114 (fun x9 => nI ((ar 1) x9))) := by rw [hσ119, sset_ne (fun q9 => absurd (tii 1 0 (by decide) (by decide) q9) (by decide))]; exact f112
                have f122 : σ119 (A 2) = some (eI g 0 912 (fun x9 => nI ((ar 2) x9))) := by rw [hσ119, sset_ne (fun q9 => absurd (tii 2 0 (by decide) (by decide) q9) (by decide))]; exact f113
                have f123 : σ119 (A 3) = some (eI g 0 114 (fun x9 => nI ((ar 3) x9))) := by rw [hσ119, sset_ne (fun q9 => absurd (tii 3 0 (by decide) (by decide) q9) (by decide))]; exact f114
                have f124 : σ119 (A 4) = some (eI g 2 2048 (fun x9 => bI (rb x9))) := by rw [hσ119, sset_ne (fun q9 => absurd (tii 4 0 (by decide) (by decide) q9) (by decide))]; exact f115
                have f125 : σ119 (A 5) = some (eI g 3 60 (fun x9 => nI ((ar 5) x9))) := by rw [hσ119, sset_ne (fun q9 => absurd (tii 5 0 (by decide) (by decide) q9) (by decide))]; exact f116
                have f126 : σ119 (A 6) = some (eI g 3 60 (fun x9 => nI ((ar 6) x9))) := by rw [hσ119, sset_ne (fun q9 => absurd (tii 6 0 (by decide) (by decide) q9) (by decide))]; exact f117
                have f127 : σ119 (A 7) = some (eI g 0 3 (fun x9 => nI ((ar 7) x9))) := by rw [hσ119, sset_ne (fun q9 => absurd (tii 7 0 (by decide) (by decide) q9) (by decide))]; exact f118
                refine lv_iload F.x F.cd dX3_minute_164 (lv_at hl 2 rfl) ?_
                refine lv_iload F.x F.cd dX3_minute_166 (lv_at hl 1 rfl) ?_
                refine n_icmp_le (a := lit (flowsN (ar 0) k) k) (b := min (lit (flowsN (ar 0) k) k) (pR (flowsN (ar 0) k) k)) (tgt := 204) F (by omega) (by omega) dX3_minute_168 (by decide) (fun c_168 => ?_) (fun c_168 => ?_)
                · refine lv_aload_n F.x F.cd dX3_minute_204 rfl (lv_at hl 6 rfl) ?_
                  refine s_get F hW (ci := 7) (C := RX3) (T := TX3) (N := 18) (v := .ref (A 0)) (f120) rfl in_X3 0 (by decide) q2279 (fun _ h9 => h9) rfl dX3_minute_205 ?_
                  refine lv_iload F.x F.cd dX3_minute_208 (lv_at hl 0 rfl) ?_
                  refine lv_iconst (v := (nI 5)) F.x F.cd dX3_minute_210 (by decide) ?_
                  refine a_iadd (v := (nI (30 + (7 * k) + 5))) F (nI_add _ _) dX3_minute_211 ?_
                  refine lv_bipush (v := (nI 20)) F.x F.cd dX3_minute_212 (by decide) ?_
                  refine lv_aload_n F.x F.cd dX3_minute_214 rfl (lv_at hl 6 rfl) ?_
                  refine s_get F hW (ci := 7) (C := RX3) (T := TX3) (N := 18) (v := .ref (A 0)) (f120) rfl in_X3 0 (by decide) q2279 (fun _ h9 => h9) rfl dX3_minute_215 ?_
                  refine lv_iload F.x F.cd dX3_minute_218 (lv_at hl 0 rfl) ?_
                  refine lv_iconst (v := (nI 5)) F.x F.cd dX3_minute_220 (by decide) ?_
                  refine a_iadd (v := (nI (30 + (7 * k) + 5))) F (nI_add _ _) dX3_minute_221 ?_
                  refine n_iald (i := 30 + (7 * k) + 5) (n := 114) (f := (fun x9 => nI ((va_up (va_up (va_up (va_up (flowsN (ar 0) k) (6 + (3 * (pB (flowsN (ar 0) k) k)) + 1) (tK (flowsN (ar 0) k) (pB (flowsN (ar 0) k) k) - (lit (flowsN (ar 0) k) k))) (6 + (3 * (pA (flowsN (ar 0) k) k)) + 1) (tK (flowsN (ar 0) k) (pA (flowsN (ar 0) k) k) + (lit (flowsN (ar 0) k) k - (min (lit (flowsN (ar 0) k) k) (pR (flowsN (ar 0) k) k))))) 5 ((flowsN (ar 0) k) 5 + (min (lit (flowsN (ar 0) k) k) (pR (flowsN (ar 0) k) k)))) (30 + (7 * k) + 6) (pL (flowsN (ar 0) k) k + (lit (flowsN (ar 0) k) k))) x9))) (x := (nI (pD (flowsN (ar 0) k) k))) F hW (w119) (by omega) (by omega) (by show nI _ = nI _; first | (rw [va_up_ne _ _ (by omega), va_up_ne _ _ (by omega), va_up_ne _ _ (by omega), va_up_ne _ _ (by omega), va_up_ne _ _ (by omega)]) | (rw [va_up_ne _ _ (by omega), va_up_ne _ _ (by omega), va_up_ne _ _ (by omega), va_up_ne _ _ (by omega)])) dX3_minute_222 ?_
                  refine lv_aload_n F.x F.cd dX3_minute_223 rfl (lv_at hl 6 rfl) ?_
                  refine s_get F hW (ci := 7) (C := RX3) (T := TX3) (N := 18) (v := .ref (A 0)) (f120) rfl in_X3 0 (by decide) q2279 (fun _ h9 => h9) rfl dX3_minute_224 ?_
                  refine lv_iload F.x F.cd dX3_minute_227 (lv_at hl 4 rfl) ?_
                  refine lv_iconst (v := (nI 2)) F.x F.cd dX3_minute_229 (by decide) ?_
                  refine a_iadd (v := (nI (6 + (3 * (pB (flowsN (ar 0) k) k)) + 2))) F (nI_add _ _) dX3_minute_230 ?_
                  refine n_iald (i := 6 + (3 * (pB (flowsN (ar 0) k) k)) + 2) (n := 114) (f := (fun x9 => nI ((va_up (va_up (va_up (va_up (flowsN (ar 0) k) (6 + (3 * (pB (flowsN (ar 0) k) k)) + 1) (tK (flowsN (ar 0) k) (pB (flowsN (ar 0) k) k) - (lit (flowsN (ar 0) k) k))) (6 + (3 * (pA (flowsN (ar 0) k) k)) + 1) (tK (flowsN (ar 0) k) (pA (flowsN (ar 0) k) k) + (lit (flowsN (ar 0) k) k - (min (lit (flowsN (ar 0) k) k) (pR (flowsN (ar 0) k) k))))) 5 ((flowsN (ar 0) k) 5 + (min (lit (flowsN (ar 0) k) k) (pR (flowsN (ar 0) k) k)))) (30 + (7 * k) + 6) (pL (flowsN (ar 0) k) k + (lit (flowsN (ar 0) k) k))) x9))) (x := (nI (tI (flowsN (ar 0) k) (pB (flowsN (ar 0) k) k)))) F hW (w119) (by omega) (by omega) (by show nI _ = nI _; first | (rw [va_up_ne _ _ (by omega), va_up_ne _ _ (by omega), va_up_ne _ _ (by omega), va_up_ne _ _ (by omega), va_up_ne _ _ (by omega)]) | (rw [va_up_ne _ _ (by omega), va_up_ne _ _ (by omega), va_up_ne _ _ (by omega), va_up_ne _ _ (by omega)])) dX3_minute_231 ?_
                  refine lv_aload_n F.x F.cd dX3_minute_232 rfl (lv_at hl 6 rfl) ?_
                  refine s_get F hW (ci := 7) (C := RX3) (T := TX3) (N := 18) (v := .ref (A 0)) (f120) rfl in_X3 0 (by decide) q2279 (fun _ h9 => h9) rfl dX3_minute_233 ?_
                  refine lv_iload F.x F.cd dX3_minute_236 (lv_at hl 0 rfl) ?_
                  refine lv_iconst (v := (nI 2)) F.x F.cd dX3_minute_238 (by decide) ?_
                  refine a_iadd (v := (nI (30 + (7 * k) + 2))) F (nI_add _ _) dX3_minute_239 ?_
                  refine n_iald (i := 30 + (7 * k) + 2) (n := 114) (f := (fun x9 => nI ((va_up (va_up (va_up (va_up (flowsN (ar 0) k) (6 + (3 * (pB (flowsN (ar 0) k) k)) + 1) (tK (flowsN (ar 0) k) (pB (flowsN (ar 0) k) k) - (lit (flowsN (ar 0) k) k))) (6 + (3 * (pA (flowsN (ar 0) k) k)) + 1) (tK (flowsN (ar 0) k) (pA (flowsN (ar 0) k) k) + (lit (flowsN (ar 0) k) k - (min (lit (flowsN (ar 0) k) k) (pR (flowsN (ar 0) k) k))))) 5 ((flowsN (ar 0) k) 5 + (min (lit (flowsN (ar 0) k) k) (pR (flowsN (ar 0) k) k)))) (30 + (7 * k) + 6) (pL (flowsN (ar 0) k) k + (lit (flowsN (ar 0) k) k))) x9))) (x := (nI (pM (flowsN (ar 0) k) k))) F hW (w119) (by omega) (by omega) (by show nI _ = nI _; first | (rw [va_up_ne _ _ (by omega), va_up_ne _ _ (by omega), va_up_ne _ _ (by omega), va_up_ne _ _ (by omega), va_up_ne _ _ (by omega)]) | (rw [va_up_ne _ _ (by omega), va_up_ne _ _ (by omega), va_up_ne _ _ (by omega), va_up_ne _ _ (by omega)])) dX3_minute_240 ?_
                  refine a_iand (v := (nI (tI (flowsN (ar 0) k) (pB (flowsN (ar 0) k) k) &&& pM (flowsN (ar 0) k) k))) F (nI_and _ _) dX3_minute_241 ?_
                  refine s_callS (As := [.int (nI (tI (flowsN (ar 0) k) (pB (flowsN (ar 0) k) k) &&& pM (flowsN (ar 0) k) k))]) (rest := [.int (nI (pD (flowsN (ar 0) k) k)), .int (nI 20), .int (nI (30 + (7 * k) + 5)), .ref (A 0)]) (n := 1) F hW (k_J19_bitCount g l σ119 (nI (tI (flowsN (ar 0) k) (pB (flowsN (ar 0) k) k) &&& pM (flowsN (ar 0) k) k))) q2446 q2447 q92 q2448 (by decide +kernel) rfl ⟨⟨Nat.le_of_ble_eq_true rfl, Nat.le_of_ble_eq_true rfl⟩, ⟨(Nat.le_of_ble_eq_true rfl), (Nat.le_of_ble_eq_true rfl)⟩⟩ (Nat.le_of_ble_eq_true rfl) hl.1 rfl dX3_minute_242 cX_no (fun r128 σ128 H locs hp128 hW => ?_)
                  obtain ⟨rfl, hs128⟩ := hp128
                  rw [hs128] at hW
                  refine W.eq (g2 := F0 m_ 245 ls (.int (nI (pops (tI (flowsN (ar 0) k) (pB (flowsN (ar 0) k) k) &&& pM (flowsN (ar 0) k) k))) :: .int (nI (pD (flowsN (ar 0) k) k)) :: .int (nI 20) :: .int (nI (30 + (7 * k) + 5)) :: .ref (A 0) :: [])) (by rw [bcI_nI _ (Nat.lt_of_le_of_lt Nat.and_le_left (by omega))] <;> rfl) ?_
                  refine a_iadd (v := (nI (pD (flowsN (ar 0) k) k + (pops (tI (flowsN (ar 0) k) (pB (flowsN (ar 0) k) k) &&& pM (flowsN (ar 0) k) k))))) F (nI_add _ _) dX3_minute_245 ?_
                  refine s_mmin (v := (nI (min 20 (pD (flowsN (ar 0) k) k + (pops (tI (flowsN (ar 0) k) (pB (flowsN (ar 0) k) k) &&& pM (flowsN (ar 0) k) k)))))) F q2445 q453 q87 q454 hl.1 (Nat.le_of_ble_eq_true rfl) (Nat.le_of_ble_eq_true rfl) (Nat.le_of_ble_eq_true rfl) (Nat.le_of_ble_eq_true rfl) (nI_min (by omega) (by omega)) dX3_minute_246 ?_
                  refine n_iastN (i := 30 + (7 * k) + 5) F hW (w119) (tbb 0 (by decide)) (by omega) (by omega) dX3_minute_249 (fun H locs hW => ?_)
                  obtain ⟨σ129, hσ129⟩ : ∃ z, z = sset σ119 (A 0) (eI g 0 114 (fun x9 => nI ((va_up (va_up (va_up (va_up (va_up (flowsN (ar 0) k) (6 + (3 * (pB (flowsN (ar 0) k) k)) + 1) (tK (flowsN (ar 0) k) (pB (flowsN (ar 0) k) k) - (lit (flowsN (ar 0) k) k))) (6 + (3 * (pA (flowsN (ar 0) k) k)) + 1) (tK (flowsN (ar 0) k) (pA (flowsN (ar 0) k) k) + (lit (flowsN (ar 0) k) k - (min (lit (flowsN (ar 0) k) k) (pR (flowsN (ar 0) k) k))))) 5 ((flowsN (ar 0) k) 5 + (min (lit (flowsN (ar 0) k) k) (pR (flowsN (ar 0) k) k)))) (30 + (7 * k) + 6) (pL (flowsN (ar 0) k) k + (lit (flowsN (ar 0) k) k))) (30 + (7 * k) + 5) (min 20 (pD (flowsN (ar 0) k) k + (pops (tI (flowsN (ar 0) k) (pB (flowsN (ar 0) k) k) &&& pM (flowsN (ar 0) k) k))))) x9))) := ⟨_, rfl⟩
                  have hW : Hl g σ129 H locs := by rw [hσ129]; exact hW
                  have w129 : σ129 (A 0) = some (eI g 0 114 (fun x9 => nI ((va_up (va_up (va_up (va_up (va_up (flowsN (ar 0) k) (6 + (3 * (pB (flowsN (ar 0) k) k)) + 1) (tK (flowsN (ar 0) k) (pB (flowsN (ar 0) k) k) - (lit (flowsN (ar 0) k) k))) (6 + (3 * (pA (flowsN (ar 0) k) k)) + 1) (tK (flowsN (ar 0) k) (pA (flowsN (ar 0) k) k) + (lit (flowsN (ar 0) k) k - (min (lit (flowsN (ar 0) k) k) (pR (flowsN (ar 0) k) k))))) 5 ((flowsN (ar 0) k) 5 + (min (lit (flowsN (ar 0) k) k) (pR (flowsN (ar 0) k) k)))) (30 + (7 * k) + 6) (pL (flowsN (ar 0) k) k + (lit (flowsN (ar 0) k) k))) (30 + (7 * k) + 5) (min 20 (pD (flowsN (ar 0) k) k + (pops (tI (flowsN (ar 0) k) (pB (flowsN (ar 0) k) k) &&& pM (flowsN (ar 0) k) k))))) x9))) := by rw [hσ129]; exact sset_eq
                  have f130 : σ129 m = some (.inr (7, [.ref (A 0), .ref (A 1), .ref (A 2), .int (iv 3), .ref (A 3), .int (iv 5), .ref (A 4), .ref (A 5), .int (iv 8), .ref (A 6), .int (iv 10), .int (iv 11), .ref wd, .ref (A 7), .int (iv 14), .int (iv 15), .int (iv 16), .int (iv 17)])) := by rw [hσ129, sset_ne (sto_ne w119 f120 (by simp))]; exact f120
                  have f131 : σ129 (A 1) = some (eI g 0 114 (fun x9 => nI ((ar 1) x9))) := by rw [hσ129, sset_ne (fun q9 => absurd (tii 1 0 (by decide) (by decide) q9) (by decide))]; exact f121
                  have f132 : σ129 (A 2) = some (eI g 0 912 (fun x9 => nI ((ar 2) x9))) := by rw [hσ129, sset_ne (fun q9 => absurd (tii 2 0 (by decide) (by decide) q9) (by decide))]; exact f122
                  have f133 : σ129 (A 3) = some (eI g 0 114 (fun x9 => nI ((ar 3) x9))) := by rw [hσ129, sset_ne (fun q9 => absurd (tii 3 0 (by decide) (by decide) q9) (by decide))]; exact f123
                  have f134 : σ129 (A 4) = some (eI g 2 2048 (fun x9 => bI (rb x9))) := by rw [hσ129, sset_ne (fun q9 => absurd (tii 4 0 (by decide) (by decide) q9) (by decide))]; exact f124
                  have f135 : σ129 (A 5) = some (eI g 3 60 (fun x9 => nI ((ar 5) x9))) := by rw [hσ129, sset_ne (fun q9 => absurd (tii 5 0 (by decide) (by decide) q9) (by decide))]; exact f125
                  have f136 : σ129 (A 6) = some (eI g 3 60 (fun x9 => nI ((ar 6) x9))) := by rw [hσ129, sset_ne (fun q9 => absurd (tii 6 0 (by decide) (by decide) q9) (by decide))]; exact f126
                  have f137 : σ129 (A 7) = some (eI g 0 3 (fun x9 => nI ((ar 7) x9))) := by rw [hσ129, sset_ne (fun q9 => absurd (tii 7 0 (by decide) (by decide) q9) (by decide))]; exact f127
                  have tw138 : IsTw g σ129 m A iv wd (va_up ar 0 (va_up (va_up (va_up (va_up (va_up (flowsN (ar 0) k) (6 + (3 * (pB (flowsN (ar 0) k) k)) + 1) (tK (flowsN (ar 0) k) (pB (flowsN (ar 0) k) k) - (lit (flowsN (ar 0) k) k))) (6 + (3 * (pA (flowsN (ar 0) k) k)) + 1) (tK (flowsN (ar 0) k) (pA (flowsN (ar 0) k) k) + (lit (flowsN (ar 0) k) k - (min (lit (flowsN (ar 0) k) k) (pR (flowsN (ar 0) k) k))))) 5 ((flowsN (ar 0) k) 5 + (min (lit (flowsN (ar 0) k) k) (pR (flowsN (ar 0) k) k)))) (30 + (7 * k) + 6) (pL (flowsN (ar 0) k) k + (lit (flowsN (ar 0) k) k))) (30 + (7 * k) + 5) (min 20 (pD (flowsN (ar 0) k) k + (pops (tI (flowsN (ar 0) k) (pB (flowsN (ar 0) k) k) &&& pM (flowsN (ar 0) k) k)))))) rb := ⟨f130, tb0, w129, f131, f132, f133, f134, f135, f136, f137, tbb, tii⟩
                  have fm138 : Fm σ σ129 m A := by rw [hσ129, hσ119, hσ110, hσ101, hσ92]; exact (((((fmk).setA 0 (by decide)).setA 0 (by decide)).setA 0 (by decide)).setA 0 (by decide)).setA 0 (by decide)
                  have tw_139 : IsTw g σ129 m A iv wd (va_up ar 0 (flowsN (ar 0) (k + 1))) rb := by
                    rw [show flowsN (ar 0) (k + 1) = flowv (flowsN (ar 0) k) k (lit (flowsN (ar 0) k) k) by rw [flowsN, if_pos hlp], ← tw_flow hs hd (by omega) (by omega) (by omega), twG]
                    first | rw [if_pos (by omega), twF] | rw [if_neg (by omega), twF]
                    exact ⟨f130, tb0, w129, f131, f132, f133, f134, f135, f136, f137, tbb, tii⟩
                  obtain ⟨t0_139, -, ta0_139, ta1_139, ta2_139, ta3_139, ta4_139, ta5_139, ta6_139, ta7_139, -, -⟩ := id tw_139
                  refine lv_iload_n F.x F.cd dX3_minute_250 rfl (lv_at hl 7 rfl) ?_
                  refine lv_iload F.x F.cd dX3_minute_251 (lv_at hl 2 rfl) ?_
                  refine a_iadd (v := (nI (flN (ar 0) k + (lit (flowsN (ar 0) k) k)))) F (nI_add _ _) dX3_minute_253 ?_
                  refine lv_istore_n (lv' := [(1, .int (nI (flN (ar 0) k + (lit (flowsN (ar 0) k) k)))), (8, .int (nI (30 + (7 * k)))), (7, .int (nI (min (lit (flowsN (ar 0) k) k) (pR (flowsN (ar 0) k) k)))), (6, .int (nI (lit (flowsN (ar 0) k) k))), (5, .int (nI (6 + (3 * (pA (flowsN (ar 0) k) k))))), (4, .int (nI (6 + (3 * (pB (flowsN (ar 0) k) k))))), (3, .int (-nI (lit (flowsN (ar 0) k) k))), (0, .ref m), (2, .int (nI k))]) F.x F.cd dX3_minute_254 rfl hl (by decide) rfl (fun ls hl => ?_)
                  have hl : lv_has ls 9 [(1, .int (nI (flN (ar 0) (k + 1)))), (8, .int (nI (30 + (7 * k)))), (7, .int (nI (min (lit (flowsN (ar 0) k) k) (pR (flowsN (ar 0) k) k)))), (6, .int (nI (lit (flowsN (ar 0) k) k))), (5, .int (nI (6 + (3 * (pA (flowsN (ar 0) k) k))))), (4, .int (nI (6 + (3 * (pB (flowsN (ar 0) k) k))))), (3, .int (-nI (lit (flowsN (ar 0) k) k))), (0, .ref m), (2, .int (nI k))] := by rw [show flN (ar 0) (k + 1) = flN (ar 0) k + lit (flowsN (ar 0) k) k from rfl]; exact hl
                  refine lv_iinc (k := 8) (v := (nI (k + 1))) (lv' := [(2, .int (nI (k + 1))), (1, .int (nI (flN (ar 0) (k + 1)))), (8, .int (nI (30 + (7 * k)))), (7, .int (nI (min (lit (flowsN (ar 0) k) k) (pR (flowsN (ar 0) k) k)))), (6, .int (nI (lit (flowsN (ar 0) k) k))), (5, .int (nI (6 + (3 * (pA (flowsN (ar 0) k) k))))), (4, .int (nI (6 + (3 * (pB (flowsN (ar 0) k) k))))), (3, .int (-nI (lit (flowsN (ar 0) k) k))), (0, .ref m)]) F.x F.cd dX3_minute_255 hl rfl (inc_nI k 1) (by decide) rfl (fun ls hl => ?_)
                  refine lv_goto (tgt := 14) F.x F.cd dX3_minute_258 (by decide) ?_
                  exact ih14 (k + 1) σ129 (by omega) (tw_139) (fm138) H locs ls hW (lv_sub hl [8, 1, 0] rfl)
                · refine lv_aload_n F.x F.cd dX3_minute_171 rfl (lv_at hl 6 rfl) ?_
                  refine s_get F hW (ci := 7) (C := RX3) (T := TX3) (N := 18) (v := .ref (A 0)) (f120) rfl in_X3 0 (by decide) q2279 (fun _ h9 => h9) rfl dX3_minute_172 ?_
                  refine lv_iload F.x F.cd dX3_minute_175 (lv_at hl 3 rfl) ?_
                  refine lv_iconst (v := (nI 2)) F.x F.cd dX3_minute_177 (by decide) ?_
                  refine a_iadd (v := (nI (6 + (3 * (pA (flowsN (ar 0) k) k)) + 2))) F (nI_add _ _) dX3_minute_178 ?_
                  refine lv_dup2_11 F.x F.cd dX3_minute_179 rfl rfl ?_
                  refine n_iald (i := 6 + (3 * (pA (flowsN (ar 0) k) k)) + 2) (n := 114) (f := (fun x9 => nI ((va_up (va_up (va_up (va_up (flowsN (ar 0) k) (6 + (3 * (pB (flowsN (ar 0) k) k)) + 1) (tK (flowsN (ar 0) k) (pB (flowsN (ar 0) k) k) - (lit (flowsN (ar 0) k) k))) (6 + (3 * (pA (flowsN (ar 0) k) k)) + 1) (tK (flowsN (ar 0) k) (pA (flowsN (ar 0) k) k) + (lit (flowsN (ar 0) k) k - (min (lit (flowsN (ar 0) k) k) (pR (flowsN (ar 0) k) k))))) 5 ((flowsN (ar 0) k) 5 + (min (lit (flowsN (ar 0) k) k) (pR (flowsN (ar 0) k) k)))) (30 + (7 * k) + 6) (pL (flowsN (ar 0) k) k + (lit (flowsN (ar 0) k) k))) x9))) (x := (nI (tI (flowsN (ar 0) k) (pA (flowsN (ar 0) k) k)))) F hW (w119) (by omega) (by omega) (by show nI _ = nI _; rw [va_up_ne _ _ (by omega), va_up_ne _ _ (by omega), va_up_ne _ _ (by omega), va_up_ne _ _ (by omega)]) dX3_minute_180 ?_
                  refine lv_aload_n F.x F.cd dX3_minute_181 rfl (lv_at hl 6 rfl) ?_
                  refine s_get F hW (ci := 7) (C := RX3) (T := TX3) (N := 18) (v := .ref (A 0)) (f120) rfl in_X3 0 (by decide) q2279 (fun _ h9 => h9) rfl dX3_minute_182 ?_
                  refine lv_iload F.x F.cd dX3_minute_185 (lv_at hl 4 rfl) ?_
                  refine lv_iconst (v := (nI 2)) F.x F.cd dX3_minute_187 (by decide) ?_
                  refine a_iadd (v := (nI (6 + (3 * (pB (flowsN (ar 0) k) k)) + 2))) F (nI_add _ _) dX3_minute_188 ?_
                  refine n_iald (i := 6 + (3 * (pB (flowsN (ar 0) k) k)) + 2) (n := 114) (f := (fun x9 => nI ((va_up (va_up (va_up (va_up (flowsN (ar 0) k) (6 + (3 * (pB (flowsN (ar 0) k) k)) + 1) (tK (flowsN (ar 0) k) (pB (flowsN (ar 0) k) k) - (lit (flowsN (ar 0) k) k))) (6 + (3 * (pA (flowsN (ar 0) k) k)) + 1) (tK (flowsN (ar 0) k) (pA (flowsN (ar 0) k) k) + (lit (flowsN (ar 0) k) k - (min (lit (flowsN (ar 0) k) k) (pR (flowsN (ar 0) k) k))))) 5 ((flowsN (ar 0) k) 5 + (min (lit (flowsN (ar 0) k) k) (pR (flowsN (ar 0) k) k)))) (30 + (7 * k) + 6) (pL (flowsN (ar 0) k) k + (lit (flowsN (ar 0) k) k))) x9))) (x := (nI (tI (flowsN (ar 0) k) (pB (flowsN (ar 0) k) k)))) F hW (w119) (by omega) (by omega) (by show nI _ = nI _; rw [va_up_ne _ _ (by omega), va_up_ne _ _ (by omega), va_up_ne _ _ (by omega), va_up_ne _ _ (by omega)]) dX3_minute_189 ?_
                  refine lv_aload_n F.x F.cd dX3_minute_190 rfl (lv_at hl 6 rfl) ?_
                  refine s_get F hW (ci := 7) (C := RX3) (T := TX3) (N := 18) (v := .ref (A 0)) (f120) rfl in_X3 0 (by decide) q2279 (fun _ h9 => h9) rfl dX3_minute_191 ?_
                  refine lv_iload F.x F.cd dX3_minute_194 (lv_at hl 0 rfl) ?_
                  refine lv_iconst (v := (nI 2)) F.x F.cd dX3_minute_196 (by decide) ?_
                  refine a_iadd (v := (nI (30 + (7 * k) + 2))) F (nI_add _ _) dX3_minute_197 ?_
                  refine n_iald (i := 30 + (7 * k) + 2) (n := 114) (f := (fun x9 => nI ((va_up (va_up (va_up (va_up (flowsN (ar 0) k) (6 + (3 * (pB (flowsN (ar 0) k) k)) + 1) (tK (flowsN (ar 0) k) (pB (flowsN (ar 0) k) k) - (lit (flowsN (ar 0) k) k))) (6 + (3 * (pA (flowsN (ar 0) k) k)) + 1) (tK (flowsN (ar 0) k) (pA (flowsN (ar 0) k) k) + (lit (flowsN (ar 0) k) k - (min (lit (flowsN (ar 0) k) k) (pR (flowsN (ar 0) k) k))))) 5 ((flowsN (ar 0) k) 5 + (min (lit (flowsN (ar 0) k) k) (pR (flowsN (ar 0) k) k)))) (30 + (7 * k) + 6) (pL (flowsN (ar 0) k) k + (lit (flowsN (ar 0) k) k))) x9))) (x := (nI (pM (flowsN (ar 0) k) k))) F hW (w119) (by omega) (by omega) (by show nI _ = nI _; rw [va_up_ne _ _ (by omega), va_up_ne _ _ (by omega), va_up_ne _ _ (by omega), va_up_ne _ _ (by omega)]) dX3_minute_198 ?_
                  refine lv_iconst (v := (-1 : Int32)) F.x F.cd dX3_minute_199 (by decide) ?_
                  refine a_ixor (v := ((nI (pM (flowsN (ar 0) k) k)) ^^^ (-1))) F (rfl) dX3_minute_200 ?_
                  refine a_iand (v := (nI (clr (tI (flowsN (ar 0) k) (pB (flowsN (ar 0) k) k)) (pM (flowsN (ar 0) k) k)))) F (nI_clr _ (by omega) _ (by omega)) dX3_minute_201 ?_
                  refine a_ior (v := (nI (tI (flowsN (ar 0) k) (pA (flowsN (ar 0) k) k) ||| clr (tI (flowsN (ar 0) k) (pB (flowsN (ar 0) k) k)) (pM (flowsN (ar 0) k) k)))) F (nI_or _ _) dX3_minute_202 ?_
                  refine n_iastN (i := 6 + (3 * (pA (flowsN (ar 0) k) k)) + 2) F hW (w119) (tbb 0 (by decide)) (by omega) (by omega) dX3_minute_203 (fun H locs hW => ?_)
                  obtain ⟨σ141, hσ141⟩ : ∃ z, z = sset σ119 (A 0) (eI g 0 114 (fun x9 => nI ((va_up (va_up (va_up (va_up (va_up (flowsN (ar 0) k) (6 + (3 * (pB (flowsN (ar 0) k) k)) + 1) (tK (flowsN (ar 0) k) (pB (flowsN (ar 0) k) k) - (lit (flowsN (ar 0) k) k))) (6 + (3 * (pA (flowsN (ar 0) k) k)) + 1) (tK (flowsN (ar 0) k) (pA (flowsN (ar 0) k) k) + (lit (flowsN (ar 0) k) k - (min (lit (flowsN (ar 0) k) k) (pR (flowsN (ar 0) k) k))))) 5 ((flowsN (ar 0) k) 5 + (min (lit (flowsN (ar 0) k) k) (pR (flowsN (ar 0) k) k)))) (30 + (7 * k) + 6) (pL (flowsN (ar 0) k) k + (lit (flowsN (ar 0) k) k))) (6 + (3 * (pA (flowsN (ar 0) k) k)) + 2) (tI (flowsN (ar 0) k) (pA (flowsN (ar 0) k) k) ||| clr (tI (flowsN (ar 0) k) (pB (flowsN (ar 0) k) k)) (pM (flowsN (ar 0) k) k))) x9))) := ⟨_, rfl⟩
                  have hW : Hl g σ141 H locs := by rw [hσ141]; exact hW
                  have w141 : σ141 (A 0) = some (eI g 0 114 (fun x9 => nI ((va_up (va_up (va_up (va_up (va_up (flowsN (ar 0) k) (6 + (3 * (pB (flowsN (ar 0) k) k)) + 1) (tK (flowsN (ar 0) k) (pB (flowsN (ar 0) k) k) - (lit (flowsN (ar 0) k) k))) (6 + (3 * (pA (flowsN (ar 0) k) k)) + 1) (tK (flowsN (ar 0) k) (pA (flowsN (ar 0) k) k) + (lit (flowsN (ar 0) k) k - (min (lit (flowsN (ar 0) k) k) (pR (flowsN (ar 0) k) k))))) 5 ((flowsN (ar 0) k) 5 + (min (lit (flowsN (ar 0) k) k) (pR (flowsN (ar 0) k) k)))) (30 + (7 * k) + 6) (pL (flowsN (ar 0) k) k + (lit (flowsN (ar 0) k) k))) (6 + (3 * (pA (flowsN (ar 0) k) k)) + 2) (tI (flowsN (ar 0) k) (pA (flowsN (ar 0) k) k) ||| clr (tI (flowsN (ar 0) k) (pB (flowsN (ar 0) k) k)) (pM (flowsN (ar 0) k) k))) x9))) := by rw [hσ141]; exact sset_eq
                  have f142 : σ141 m = some (.inr (7, [.ref (A 0), .ref (A 1), .ref (A 2), .int (iv 3), .ref (A 3), .int (iv 5), .ref (A 4), .ref (A 5), .int (iv 8), .ref (A 6), .int (iv 10), .int (iv 11), .ref wd, .ref (A 7), .int (iv 14), .int (iv 15), .int (iv 16), .int (iv 17)])) := by rw [hσ141, sset_ne (sto_ne w119 f120 (by simp))]; exact f120
                  have f143 : σ141 (A 1) = some (eI g 0 114 (fun x9 => nI ((ar 1) x9))) := by rw [hσ141, sset_ne (fun q9 => absurd (tii 1 0 (by decide) (by decide) q9) (by decide))]; exact f121
                  have f144 : σ141 (A 2) = some (eI g 0 912 (fun x9 => nI ((ar 2) x9))) := by rw [hσ141, sset_ne (fun q9 => absurd (tii 2 0 (by decide) (by decide) q9) (by decide))]; exact f122
                  have f145 : σ141 (A 3) = some (eI g 0 114 (fun x9 => nI ((ar 3) x9))) := by rw [hσ141, sset_ne (fun q9 => absurd (tii 3 0 (by decide) (by decide) q9) (by decide))]; exact f123
                  have f146 : σ141 (A 4) = some (eI g 2 2048 (fun x9 => bI (rb x9))) := by rw [hσ141, sset_ne (fun q9 => absurd (tii 4 0 (by decide) (by decide) q9) (by decide))]; exact f124
                  have f147 : σ141 (A 5) = some (eI g 3 60 (fun x9 => nI ((ar 5) x9))) := by rw [hσ141, sset_ne (fun q9 => absurd (tii 5 0 (by decide) (by decide) q9) (by decide))]; exact f125
                  have f148 : σ141 (A 6) = some (eI g 3 60 (fun x9 => nI ((ar 6) x9))) := by rw [hσ141, sset_ne (fun q9 => absurd (tii 6 0 (by decide) (by decide) q9) (by decide))]; exact f126
                  have f149 : σ141 (A 7) = some (eI g 0 3 (fun x9 => nI ((ar 7) x9))) := by rw [hσ141, sset_ne (fun q9 => absurd (tii 7 0 (by decide) (by decide) q9) (by decide))]; exact f127
                  refine lv_aload_n F.x F.cd dX3_minute_204 rfl (lv_at hl 6 rfl) ?_
                  refine s_get F hW (ci := 7) (C := RX3) (T := TX3) (N := 18) (v := .ref (A 0)) (f142) rfl in_X3 0 (by decide) q2279 (fun _ h9 => h9) rfl dX3_minute_205 ?_
                  refine lv_iload F.x F.cd dX3_minute_208 (lv_at hl 0 rfl) ?_
                  refine lv_iconst (v := (nI 5)) F.x F.cd dX3_minute_210 (by decide) ?_
                  refine a_iadd (v := (nI (30 + (7 * k) + 5))) F (nI_add _ _) dX3_minute_211 ?_
                  refine lv_bipush (v := (nI 20)) F.x F.cd dX3_minute_212 (by decide) ?_
                  refine lv_aload_n F.x F.cd dX3_minute_214 rfl (lv_at hl 6 rfl) ?_
                  refine s_get F hW (ci := 7) (C := RX3) (T := TX3) (N := 18) (v := .ref (A 0)) (f142) rfl in_X3 0 (by decide) q2279 (fun _ h9 => h9) rfl dX3_minute_215 ?_
                  refine lv_iload F.x F.cd dX3_minute_218 (lv_at hl 0 rfl) ?_
                  refine lv_iconst (v := (nI 5)) F.x F.cd dX3_minute_220 (by decide) ?_
                  refine a_iadd (v := (nI (30 + (7 * k) + 5))) F (nI_add _ _) dX3_minute_221 ?_
                  refine n_iald (i := 30 + (7 * k) + 5) (n := 114) (f := (fun x9 => nI ((va_up (va_up (va_up (va_up (va_up (flowsN (ar 0) k) (6 + (3 * (pB (flowsN (ar 0) k) k)) + 1) (tK (flowsN (ar 0) k) (pB (flowsN (ar 0) k) k) - (lit (flowsN (ar 0) k) k))) (6 + (3 * (pA (flowsN (ar 0) k) k)) + 1) (tK (flowsN (ar 0) k) (pA (flowsN (ar 0) k) k) + (lit (flowsN (ar 0) k) k - (min (lit (flowsN (ar 0) k) k) (pR (flowsN (ar 0) k) k))))) 5 ((flowsN (ar 0) k) 5 + (min (lit (flowsN (ar 0) k) k) (pR (flowsN (ar 0) k) k)))) (30 + (7 * k) + 6) (pL (flowsN (ar 0) k) k + (lit (flowsN (ar 0) k) k))) (6 + (3 * (pA (flowsN (ar 0) k) k)) + 2) (tI (flowsN (ar 0) k) (pA (flowsN (ar 0) k) k) ||| clr (tI (flowsN (ar 0) k) (pB (flowsN (ar 0) k) k)) (pM (flowsN (ar 0) k) k))) x9))) (x := (nI (pD (flowsN (ar 0) k) k))) F hW (w141) (by omega) (by omega) (by show nI _ = nI _; first | (rw [va_up_ne _ _ (by omega), va_up_ne _ _ (by omega), va_up_ne _ _ (by omega), va_up_ne _ _ (by omega), va_up_ne _ _ (by omega)]) | (rw [va_up_ne _ _ (by omega), va_up_ne _ _ (by omega), va_up_ne _ _ (by omega), va_up_ne _ _ (by omega)])) dX3_minute_222 ?_
                  refine lv_aload_n F.x F.cd dX3_minute_223 rfl (lv_at hl 6 rfl) ?_
                  refine s_get F hW (ci := 7) (C := RX3) (T := TX3) (N := 18) (v := .ref (A 0)) (f142) rfl in_X3 0 (by decide) q2279 (fun _ h9 => h9) rfl dX3_minute_224 ?_
                  refine lv_iload F.x F.cd dX3_minute_227 (lv_at hl 4 rfl) ?_
                  refine lv_iconst (v := (nI 2)) F.x F.cd dX3_minute_229 (by decide) ?_
                  refine a_iadd (v := (nI (6 + (3 * (pB (flowsN (ar 0) k) k)) + 2))) F (nI_add _ _) dX3_minute_230 ?_
                  refine n_iald (i := 6 + (3 * (pB (flowsN (ar 0) k) k)) + 2) (n := 114) (f := (fun x9 => nI ((va_up (va_up (va_up (va_up (va_up (flowsN (ar 0) k) (6 + (3 * (pB (flowsN (ar 0) k) k)) + 1) (tK (flowsN (ar 0) k) (pB (flowsN (ar 0) k) k) - (lit (flowsN (ar 0) k) k))) (6 + (3 * (pA (flowsN (ar 0) k) k)) + 1) (tK (flowsN (ar 0) k) (pA (flowsN (ar 0) k) k) + (lit (flowsN (ar 0) k) k - (min (lit (flowsN (ar 0) k) k) (pR (flowsN (ar 0) k) k))))) 5 ((flowsN (ar 0) k) 5 + (min (lit (flowsN (ar 0) k) k) (pR (flowsN (ar 0) k) k)))) (30 + (7 * k) + 6) (pL (flowsN (ar 0) k) k + (lit (flowsN (ar 0) k) k))) (6 + (3 * (pA (flowsN (ar 0) k) k)) + 2) (tI (flowsN (ar 0) k) (pA (flowsN (ar 0) k) k) ||| clr (tI (flowsN (ar 0) k) (pB (flowsN (ar 0) k) k)) (pM (flowsN (ar 0) k) k))) x9))) (x := (nI (tI (flowsN (ar 0) k) (pB (flowsN (ar 0) k) k)))) F hW (w141) (by omega) (by omega) (by show nI _ = nI _; first | (rw [va_up_ne _ _ (by omega), va_up_ne _ _ (by omega), va_up_ne _ _ (by omega), va_up_ne _ _ (by omega), va_up_ne _ _ (by omega)]) | (rw [va_up_ne _ _ (by omega), va_up_ne _ _ (by omega), va_up_ne _ _ (by omega), va_up_ne _ _ (by omega)])) dX3_minute_231 ?_
                  refine lv_aload_n F.x F.cd dX3_minute_232 rfl (lv_at hl 6 rfl) ?_
                  refine s_get F hW (ci := 7) (C := RX3) (T := TX3) (N := 18) (v := .ref (A 0)) (f142) rfl in_X3 0 (by decide) q2279 (fun _ h9 => h9) rfl dX3_minute_233 ?_
                  refine lv_iload F.x F.cd dX3_minute_236 (lv_at hl 0 rfl) ?_
                  refine lv_iconst (v := (nI 2)) F.x F.cd dX3_minute_238 (by decide) ?_
                  refine a_iadd (v := (nI (30 + (7 * k) + 2))) F (nI_add _ _) dX3_minute_239 ?_
                  refine n_iald (i := 30 + (7 * k) + 2) (n := 114) (f := (fun x9 => nI ((va_up (va_up (va_up (va_up (va_up (flowsN (ar 0) k) (6 + (3 * (pB (flowsN (ar 0) k) k)) + 1) (tK (flowsN (ar 0) k) (pB (flowsN (ar 0) k) k) - (lit (flowsN (ar 0) k) k))) (6 + (3 * (pA (flowsN (ar 0) k) k)) + 1) (tK (flowsN (ar 0) k) (pA (flowsN (ar 0) k) k) + (lit (flowsN (ar 0) k) k - (min (lit (flowsN (ar 0) k) k) (pR (flowsN (ar 0) k) k))))) 5 ((flowsN (ar 0) k) 5 + (min (lit (flowsN (ar 0) k) k) (pR (flowsN (ar 0) k) k)))) (30 + (7 * k) + 6) (pL (flowsN (ar 0) k) k + (lit (flowsN (ar 0) k) k))) (6 + (3 * (pA (flowsN (ar 0) k) k)) + 2) (tI (flowsN (ar 0) k) (pA (flowsN (ar 0) k) k) ||| clr (tI (flowsN (ar 0) k) (pB (flowsN (ar 0) k) k)) (pM (flowsN (ar 0) k) k))) x9))) (x := (nI (pM (flowsN (ar 0) k) k))) F hW (w141) (by omega) (by omega) (by show nI _ = nI _; first | (rw [va_up_ne _ _ (by omega), va_up_ne _ _ (by omega), va_up_ne _ _ (by omega), va_up_ne _ _ (by omega), va_up_ne _ _ (by omega)]) | (rw [va_up_ne _ _ (by omega), va_up_ne _ _ (by omega), va_up_ne _ _ (by omega), va_up_ne _ _ (by omega)])) dX3_minute_240 ?_
                  refine a_iand (v := (nI (tI (flowsN (ar 0) k) (pB (flowsN (ar 0) k) k) &&& pM (flowsN (ar 0) k) k))) F (nI_and _ _) dX3_minute_241 ?_
                  refine s_callS (As := [.int (nI (tI (flowsN (ar 0) k) (pB (flowsN (ar 0) k) k) &&& pM (flowsN (ar 0) k) k))]) (rest := [.int (nI (pD (flowsN (ar 0) k) k)), .int (nI 20), .int (nI (30 + (7 * k) + 5)), .ref (A 0)]) (n := 1) F hW (k_J19_bitCount g l σ141 (nI (tI (flowsN (ar 0) k) (pB (flowsN (ar 0) k) k) &&& pM (flowsN (ar 0) k) k))) q2446 q2447 q92 q2448 (by decide +kernel) rfl ⟨⟨Nat.le_of_ble_eq_true rfl, Nat.le_of_ble_eq_true rfl⟩, ⟨(Nat.le_of_ble_eq_true rfl), (Nat.le_of_ble_eq_true rfl)⟩⟩ (Nat.le_of_ble_eq_true rfl) hl.1 rfl dX3_minute_242 cX_no (fun r150 σ150 H locs hp150 hW => ?_)
                  obtain ⟨rfl, hs150⟩ := hp150
                  rw [hs150] at hW
                  refine W.eq (g2 := F0 m_ 245 ls (.int (nI (pops (tI (flowsN (ar 0) k) (pB (flowsN (ar 0) k) k) &&& pM (flowsN (ar 0) k) k))) :: .int (nI (pD (flowsN (ar 0) k) k)) :: .int (nI 20) :: .int (nI (30 + (7 * k) + 5)) :: .ref (A 0) :: [])) (by rw [bcI_nI _ (Nat.lt_of_le_of_lt Nat.and_le_left (by omega))] <;> rfl) ?_
                  refine a_iadd (v := (nI (pD (flowsN (ar 0) k) k + (pops (tI (flowsN (ar 0) k) (pB (flowsN (ar 0) k) k) &&& pM (flowsN (ar 0) k) k))))) F (nI_add _ _) dX3_minute_245 ?_
                  refine s_mmin (v := (nI (min 20 (pD (flowsN (ar 0) k) k + (pops (tI (flowsN (ar 0) k) (pB (flowsN (ar 0) k) k) &&& pM (flowsN (ar 0) k) k)))))) F q2445 q453 q87 q454 hl.1 (Nat.le_of_ble_eq_true rfl) (Nat.le_of_ble_eq_true rfl) (Nat.le_of_ble_eq_true rfl) (Nat.le_of_ble_eq_true rfl) (nI_min (by omega) (by omega)) dX3_minute_246 ?_
                  refine n_iastN (i := 30 + (7 * k) + 5) F hW (w141) (tbb 0 (by decide)) (by omega) (by omega) dX3_minute_249 (fun H locs hW => ?_)
                  obtain ⟨σ151, hσ151⟩ : ∃ z, z = sset σ141 (A 0) (eI g 0 114 (fun x9 => nI ((va_up (va_up (va_up (va_up (va_up (va_up (flowsN (ar 0) k) (6 + (3 * (pB (flowsN (ar 0) k) k)) + 1) (tK (flowsN (ar 0) k) (pB (flowsN (ar 0) k) k) - (lit (flowsN (ar 0) k) k))) (6 + (3 * (pA (flowsN (ar 0) k) k)) + 1) (tK (flowsN (ar 0) k) (pA (flowsN (ar 0) k) k) + (lit (flowsN (ar 0) k) k - (min (lit (flowsN (ar 0) k) k) (pR (flowsN (ar 0) k) k))))) 5 ((flowsN (ar 0) k) 5 + (min (lit (flowsN (ar 0) k) k) (pR (flowsN (ar 0) k) k)))) (30 + (7 * k) + 6) (pL (flowsN (ar 0) k) k + (lit (flowsN (ar 0) k) k))) (6 + (3 * (pA (flowsN (ar 0) k) k)) + 2) (tI (flowsN (ar 0) k) (pA (flowsN (ar 0) k) k) ||| clr (tI (flowsN (ar 0) k) (pB (flowsN (ar 0) k) k)) (pM (flowsN (ar 0) k) k))) (30 + (7 * k) + 5) (min 20 (pD (flowsN (ar 0) k) k + (pops (tI (flowsN (ar 0) k) (pB (flowsN (ar 0) k) k) &&& pM (flowsN (ar 0) k) k))))) x9))) := ⟨_, rfl⟩
                  have hW : Hl g σ151 H locs := by rw [hσ151]; exact hW
                  have w151 : σ151 (A 0) = some (eI g 0 114 (fun x9 => nI ((va_up (va_up (va_up (va_up (va_up (va_up (flowsN (ar 0) k) (6 + (3 * (pB (flowsN (ar 0) k) k)) + 1) (tK (flowsN (ar 0) k) (pB (flowsN (ar 0) k) k) - (lit (flowsN (ar 0) k) k))) (6 + (3 * (pA (flowsN (ar 0) k) k)) + 1) (tK (flowsN (ar 0) k) (pA (flowsN (ar 0) k) k) + (lit (flowsN (ar 0) k) k - (min (lit (flowsN (ar 0) k) k) (pR (flowsN (ar 0) k) k))))) 5 ((flowsN (ar 0) k) 5 + (min (lit (flowsN (ar 0) k) k) (pR (flowsN (ar 0) k) k)))) (30 + (7 * k) + 6) (pL (flowsN (ar 0) k) k + (lit (flowsN (ar 0) k) k))) (6 + (3 * (pA (flowsN (ar 0) k) k)) + 2) (tI (flowsN (ar 0) k) (pA (flowsN (ar 0) k) k) ||| clr (tI (flowsN (ar 0) k) (pB (flowsN (ar 0) k) k)) (pM (flowsN (ar 0) k) k))) (30 + (7 * k) + 5) (min 20 (pD (flowsN (ar 0) k) k + (pops (tI (flowsN (ar 0) k) (pB (flowsN (ar 0) k) k) &&& pM (flowsN (ar 0) k) k))))) x9))) := by rw [hσ151]; exact sset_eq
                  have f152 : σ151 m = some (.inr (7, [.ref (A 0), .ref (A 1), .ref (A 2), .int (iv 3), .ref (A 3), .int (iv 5), .ref (A 4), .ref (A 5), .int (iv 8), .ref (A 6), .int (iv 10), .int (iv 11), .ref wd, .ref (A 7), .int (iv 14), .int (iv 15), .int (iv 16), .int (iv 17)])) := by rw [hσ151, sset_ne (sto_ne w141 f142 (by simp))]; exact f142
                  have f153 : σ151 (A 1) = some (eI g 0 114 (fun x9 => nI ((ar 1) x9))) := by rw [hσ151, sset_ne (fun q9 => absurd (tii 1 0 (by decide) (by decide) q9) (by decide))]; exact f143
                  have f154 : σ151 (A 2) = some (eI g 0 912 (fun x9 => nI ((ar 2) x9))) := by rw [hσ151, sset_ne (fun q9 => absurd (tii 2 0 (by decide) (by decide) q9) (by decide))]; exact f144
                  have f155 : σ151 (A 3) = some (eI g 0 114 (fun x9 => nI ((ar 3) x9))) := by rw [hσ151, sset_ne (fun q9 => absurd (tii 3 0 (by decide) (by decide) q9) (by decide))]; exact f145
                  have f156 : σ151 (A 4) = some (eI g 2 2048 (fun x9 => bI (rb x9))) := by rw [hσ151, sset_ne (fun q9 => absurd (tii 4 0 (by decide) (by decide) q9) (by decide))]; exact f146
                  have f157 : σ151 (A 5) = some (eI g 3 60 (fun x9 => nI ((ar 5) x9))) := by rw [hσ151, sset_ne (fun q9 => absurd (tii 5 0 (by decide) (by decide) q9) (by decide))]; exact f147
                  have f158 : σ151 (A 6) = some (eI g 3 60 (fun x9 => nI ((ar 6) x9))) := by rw [hσ151, sset_ne (fun q9 => absurd (tii 6 0 (by decide) (by decide) q9) (by decide))]; exact f148
                  have f159 : σ151 (A 7) = some (eI g 0 3 (fun x9 => nI ((ar 7) x9))) := by rw [hσ151, sset_ne (fun q9 => absurd (tii 7 0 (by decide) (by decide) q9) (by decide))]; exact f149
                  have tw160 : IsTw g σ151 m A iv wd (va_up ar 0 (va_up (va_up (va_up (va_up (va_up (va_up (flowsN (ar 0) k) (6 + (3 * (pB (flowsN (ar 0) k) k)) + 1) (tK (flowsN (ar 0) k) (pB (flowsN (ar 0) k) k) - (lit (flowsN (ar 0) k) k))) (6 + (3 * (pA (flowsN (ar 0) k) k)) + 1) (tK (flowsN (ar 0) k) (pA (flowsN (ar 0) k) k) + (lit (flowsN (ar 0) k) k - (min (lit (flowsN (ar 0) k) k) (pR (flowsN (ar 0) k) k))))) 5 ((flowsN (ar 0) k) 5 + (min (lit (flowsN (ar 0) k) k) (pR (flowsN (ar 0) k) k)))) (30 + (7 * k) + 6) (pL (flowsN (ar 0) k) k + (lit (flowsN (ar 0) k) k))) (6 + (3 * (pA (flowsN (ar 0) k) k)) + 2) (tI (flowsN (ar 0) k) (pA (flowsN (ar 0) k) k) ||| clr (tI (flowsN (ar 0) k) (pB (flowsN (ar 0) k) k)) (pM (flowsN (ar 0) k) k))) (30 + (7 * k) + 5) (min 20 (pD (flowsN (ar 0) k) k + (pops (tI (flowsN (ar 0) k) (pB (flowsN (ar 0) k) k) &&& pM (flowsN (ar 0) k) k)))))) rb := ⟨f152, tb0, w151, f153, f154, f155, f156, f157, f158, f159, tbb, tii⟩
                  have fm160 : Fm σ σ151 m A := by rw [hσ151, hσ141, hσ119, hσ110, hσ101, hσ92]; exact ((((((fmk).setA 0 (by decide)).setA 0 (by decide)).setA 0 (by decide)).setA 0 (by decide)).setA 0 (by decide)).setA 0 (by decide)
                  have tw_161 : IsTw g σ151 m A iv wd (va_up ar 0 (flowsN (ar 0) (k + 1))) rb := by
                    rw [show flowsN (ar 0) (k + 1) = flowv (flowsN (ar 0) k) k (lit (flowsN (ar 0) k) k) by rw [flowsN, if_pos hlp], ← tw_flow hs hd (by omega) (by omega) (by omega), twG]
                    first | rw [if_pos (by omega), twF] | rw [if_neg (by omega), twF]
                    exact ⟨f152, tb0, w151, f153, f154, f155, f156, f157, f158, f159, tbb, tii⟩
                  obtain ⟨t0_161, -, ta0_161, ta1_161, ta2_161, ta3_161, ta4_161, ta5_161, ta6_161, ta7_161, -, -⟩ := id tw_161
                  refine lv_iload_n F.x F.cd dX3_minute_250 rfl (lv_at hl 7 rfl) ?_
                  refine lv_iload F.x F.cd dX3_minute_251 (lv_at hl 2 rfl) ?_
                  refine a_iadd (v := (nI (flN (ar 0) k + (lit (flowsN (ar 0) k) k)))) F (nI_add _ _) dX3_minute_253 ?_
                  refine lv_istore_n (lv' := [(1, .int (nI (flN (ar 0) k + (lit (flowsN (ar 0) k) k)))), (8, .int (nI (30 + (7 * k)))), (7, .int (nI (min (lit (flowsN (ar 0) k) k) (pR (flowsN (ar 0) k) k)))), (6, .int (nI (lit (flowsN (ar 0) k) k))), (5, .int (nI (6 + (3 * (pA (flowsN (ar 0) k) k))))), (4, .int (nI (6 + (3 * (pB (flowsN (ar 0) k) k))))), (3, .int (-nI (lit (flowsN (ar 0) k) k))), (0, .ref m), (2, .int (nI k))]) F.x F.cd dX3_minute_254 rfl hl (by decide) rfl (fun ls hl => ?_)
                  have hl : lv_has ls 9 [(1, .int (nI (flN (ar 0) (k + 1)))), (8, .int (nI (30 + (7 * k)))), (7, .int (nI (min (lit (flowsN (ar 0) k) k) (pR (flowsN (ar 0) k) k)))), (6, .int (nI (lit (flowsN (ar 0) k) k))), (5, .int (nI (6 + (3 * (pA (flowsN (ar 0) k) k))))), (4, .int (nI (6 + (3 * (pB (flowsN (ar 0) k) k))))), (3, .int (-nI (lit (flowsN (ar 0) k) k))), (0, .ref m), (2, .int (nI k))] := by rw [show flN (ar 0) (k + 1) = flN (ar 0) k + lit (flowsN (ar 0) k) k from rfl]; exact hl
                  refine lv_iinc (k := 8) (v := (nI (k + 1))) (lv' := [(2, .int (nI (k + 1))), (1, .int (nI (flN (ar 0) (k + 1)))), (8, .int (nI (30 + (7 * k)))), (7, .int (nI (min (lit (flowsN (ar 0) k) k) (pR (flowsN (ar 0) k) k)))), (6, .int (nI (lit (flowsN (ar 0) k) k))), (5, .int (nI (6 + (3 * (pA (flowsN (ar 0) k) k))))), (4, .int (nI (6 + (3 * (pB (flowsN (ar 0) k) k))))), (3, .int (-nI (lit (flowsN (ar 0) k) k))), (0, .ref m)]) F.x F.cd dX3_minute_255 hl rfl (inc_nI k 1) (by decide) rfl (fun ls hl => ?_)
                  refine lv_goto (tgt := 14) F.x F.cd dX3_minute_258 (by decide) ?_
                  exact ih14 (k + 1) σ151 (by omega) (tw_161) (fm160) H locs ls hW (lv_sub hl [8, 1, 0] rfl)
              · exact absurd (n_neg_le (by omega)) c_64
            · exact absurd (n_neg_le (by omega)) c_43
        · refine lv_goto (tgt := 255) F.x F.cd dX3_minute_34 (by decide) ?_
          have hl0 : lit (flowsN (ar 0) k) k = 0 := (lits_0 hIk hkq).mp c_31
          have tw_163 : IsTw g σk m A iv wd (va_up ar 0 (flowsN (ar 0) (k + 1))) rb := by
            rw [show flowsN (ar 0) (k + 1) = (flowsN (ar 0) k) by rw [flowsN, if_neg (by omega)]]
            exact ⟨t0_k12, tb0, ta0_k12, ta1_k12, ta2_k12, ta3_k12, ta4_k12, ta5_k12, ta6_k12, ta7_k12, tbb, tii⟩
          obtain ⟨t0_163, -, ta0_163, ta1_163, ta2_163, ta3_163, ta4_163, ta5_163, ta6_163, ta7_163, -, -⟩ := id tw_163
          have hl : lv_has ls 9 [(3, .int (lits (flowsN (ar 0) k) k)), (0, .ref m), (1, .int (nI (flN (ar 0) (k + 1)))), (2, .int (nI k))] := by rw [show flN (ar 0) (k + 1) = flN (ar 0) k by rw [flN, hl0, Nat.add_zero]]; exact hl
          refine lv_iinc (k := 3) (v := (nI (k + 1))) (lv' := [(2, .int (nI (k + 1))), (3, .int (lits (flowsN (ar 0) k) k)), (0, .ref m), (1, .int (nI (flN (ar 0) (k + 1))))]) F.x F.cd dX3_minute_255 hl rfl (inc_nI k 1) (by decide) rfl (fun ls hl => ?_)
          refine lv_goto (tgt := 14) F.x F.cd dX3_minute_258 (by decide) ?_
          exact ih14 (k + 1) σk (by omega) (tw_163) (fmk) H locs ls hW (lv_sub hl [2, 3, 0] rfl)
  exact loop14 (ar 0 1) 0 _  (by omega) (tw_11) (fm10) H locs ls hW (lv_sub hl [2, 1, 0] rfl)
set_option maxHeartbeats 4000000 in
theorem k_X3_passes (g : Gh) (l : Launch) (σ : Sto) (m : Nat) (A : Nat → Nat) (iv : Nat → Int32) (wd : Nat) (ar : Nat → Nat → Nat) (rb : Nat → Bool) (x : Int32) (hw : IsTw g σ m A iv wd ar rb) (hI : Inv (ar 0)) : Ct g l yX3_passes cX3_passes 5 (some .int) ({ frames := 4, cells := 0, slots := 0, locals := 97 } : Room) [.ref m, .int x] σ (fun r σ' => TC g σ m A iv wd ar rb (waitR (ar 0) x) en2 r σ') (nox) := by
  refine Ct.body (by decide) (Nat.le_of_ble_eq_true rfl) ?_
  intro p_ e_ s_ m_ args_ below_ meth_ c_ ls H locs Q F hW hl hQ
  have hl : lv_has ls 5 [(0, .ref m), (1, .int x)] := hl
  obtain ⟨t0, tb0, ta0, ta1, ta2, ta3, ta4, ta5, ta6, ta7, tbb, tii⟩ := id hw
  have hv0 := hI.1
  have hv1 := hI.2.1
  refine lv_iload_n F.x F.cd dX3_passes_0 rfl (lv_at hl 1 rfl) ?_
  refine lv_iconst (v := (nI 1)) F.x F.cd dX3_passes_1 (by decide) ?_
  refine lv_bipush (v := (nI 60)) F.x F.cd dX3_passes_2 (by decide) ?_
  refine s_callS (As := [.int x, .int (nI 1), .int (nI 60)]) (rest := []) (n := 3) F hW (k_X3_in g l σ x (nI 1) (nI 60)) q2351 q2352 q79 q2353 (by decide +kernel) rfl ⟨⟨Nat.le_of_ble_eq_true rfl, Nat.le_of_ble_eq_true rfl⟩, ⟨(Nat.le_of_ble_eq_true rfl), (Nat.le_of_ble_eq_true rfl)⟩⟩ (Nat.le_of_ble_eq_true rfl) hl.1 rfl dX3_passes_4 cX_no (fun r1 σ1 H locs hp1 hW => ?_)
  obtain ⟨rfl, hs1⟩ := hp1
  rw [hs1] at hW
  refine W.eq (g2 := F0 m_ 7 ls (.int (bI (btw x (nI 1) (nI 60))) :: [])) rfl ?_
  refine b_if_ne (b := (btw x (nI 1) (nI 60))) (tgt := 12) F dX3_passes_7 (by decide) (fun c_7 => ?_) (fun c_7 => ?_)
  · obtain ⟨n, hn1, hn2, rfl⟩ := (btw_iff (by decide) (by decide)).mp c_7
    refine lv_aload_n F.x F.cd dX3_passes_12 rfl (lv_at hl 0 rfl) ?_
    refine s_get F hW (ci := 7) (C := RX3) (T := TX3) (N := 18) (v := .ref (A 0)) (t0) rfl in_X3 0 (by decide) q2279 (fun _ h9 => h9) rfl dX3_passes_13 ?_
    refine lv_iconst (v := (nI 5)) F.x F.cd dX3_passes_16 (by decide) ?_
    refine n_iald (i := 5) (n := 114) (f := (fun x9 => nI ((ar 0) x9))) (x := (nI (ar 0 5))) F hW (ta0) (by omega) (by omega) (rfl) dX3_passes_17 ?_
    refine lv_istore_n (lv' := [(2, .int (nI (ar 0 5))), (0, .ref m), (1, .int (nI n))]) F.x F.cd dX3_passes_18 rfl hl (by decide) rfl (fun ls hl => ?_)
    refine lv_iconst (v := (nI 0)) F.x F.cd dX3_passes_19 (by decide) ?_
    refine lv_istore_n (lv' := [(3, .int (nI 0)), (2, .int (nI (ar 0 5))), (0, .ref m), (1, .int (nI n))]) F.x F.cd dX3_passes_20 rfl hl (by decide) rfl (fun ls hl => ?_)
    refine lv_iconst (v := (nI 0)) F.x F.cd dX3_passes_21 (by decide) ?_
    refine lv_istore (lv' := [(4, .int (nI 0)), (3, .int (nI 0)), (2, .int (nI (ar 0 5))), (0, .ref m), (1, .int (nI n))]) F.x F.cd dX3_passes_22 hl (by decide) rfl (fun ls hl => ?_)
    have loop24 : ∀ (z : Nat) (k : Nat) (σk : Sto) (al : Int32), k + z = n → IsTw g σk m A iv wd (va_up ar 0 (mins (ar 0) k)) rb → Fm σ σk m A → ∀ (H : Heap) (locs : List Loc) (ls : Array Slot), Hl g σk H locs → lv_has ls 5 [(0, .ref m), (1, .int (nI n)), (2, .int (nI (ar 0 5))), (3, .int al), (4, .int (nI k))] → W p_ l e_ ({ frames := 4, cells := 0, slots := 0, locals := 97 } : Room) s_ m_ args_ below_ meth_ c_ H locs 0 0 Q (F0 m_ 24 ls ([])) := by
      intro z
      induction z with
      | zero =>
        intro k σk al hkz twk fmk H locs ls hW hl
        obtain ⟨t0_k2, -, ta0_k2, ta1_k2, ta2_k2, ta3_k2, ta4_k2, ta5_k2, ta6_k2, ta7_k2, -, -⟩ := id twk
        have hIk := inv_mins hI k
        refine lv_iload F.x F.cd dX3_passes_24 (lv_at hl 4 rfl) ?_
        refine lv_iload_n F.x F.cd dX3_passes_26 rfl (lv_at hl 1 rfl) ?_
        refine n_icmp_ge (a := k) (b := n) (tgt := 43) F (by omega) (by omega) dX3_passes_27 (by decide) (fun c_27 => ?_) (fun c_27 => ?_)
        · refine lv_aload_n F.x F.cd dX3_passes_43 rfl (lv_at hl 0 rfl) ?_
          refine lv_aload_n F.x F.cd dX3_passes_44 rfl (lv_at hl 0 rfl) ?_
          refine s_get F hW (ci := 7) (C := RX3) (T := TX3) (N := 18) (v := .ref (A 0)) (t0_k2) rfl in_X3 0 (by decide) q2279 (fun _ h9 => h9) rfl dX3_passes_45 ?_
          refine lv_iconst (v := (nI 5)) F.x F.cd dX3_passes_48 (by decide) ?_
          refine n_iald (i := 5) (n := 114) (f := (fun x9 => nI ((mins (ar 0) k) x9))) (x := (nI (mins (ar 0) k 5))) F hW (ta0_k2) (by omega) (by omega) (rfl) dX3_passes_49 ?_
          refine lv_iload_n F.x F.cd dX3_passes_50 rfl (lv_at hl 2 rfl) ?_
          refine a_isub (v := (nI (mins (ar 0) k 5) - nI (ar 0 5))) F (rfl) dX3_passes_51 ?_
          refine s_callV (As := [.int (nI (mins (ar 0) k 5) - nI (ar 0 5))]) (rest := []) (C := RX3) (T := TX3) (N := 18) (n := 1) F hW (k_X3_does g l σk m A _ _ _ _ (nI (mins (ar 0) k 5) - nI (ar 0 5)) twk ) (t0_k2) rfl q2354 q2356 qs35 q79 q2357 rfl (by decide +kernel) rfl ⟨⟨Nat.le_of_ble_eq_true rfl, Nat.le_of_ble_eq_true rfl⟩, ⟨(Nat.le_of_ble_eq_true rfl), (Nat.le_of_ble_eq_true rfl)⟩⟩ (Nat.le_of_ble_eq_true rfl) hl.1 rfl dX3_passes_52 cX_no (fun r3 σ3 H locs hp3 hW => ?_)
          obtain ⟨rfl, tv3, fv3⟩ := hp3
          refine W.eq (g2 := F0 m_ 55 ls (.int (nI 0) :: [])) rfl ?_
          obtain ⟨t0_4, -, ta0_4, ta1_4, ta2_4, ta3_4, ta4_4, ta5_4, ta6_4, ta7_4, -, -⟩ := id tv3
          have fm_4 : Fm σ σ3 m A := (fmk).trans fv3
          have tw_4 : IsTw g σ3 m A (va_up iv 16 (nI (mins (ar 0) k 5) - nI (ar 0 5))) wd (va_up ar 0 (mins (ar 0) k)) rb := ⟨t0_4, tb0, ta0_4, ta1_4, ta2_4, ta3_4, ta4_4, ta5_4, ta6_4, ta7_4, tbb, tii⟩
          subst hQ
          exact s_reti (v := (nI 0)) F hW rfl (TC.ok (by rw [waitR, if_pos c_7, cl_nI (by omega), ← show k = n by omega]) tw_4 fm_4) ⟨(Nat.le_of_ble_eq_true rfl), (Nat.le_of_ble_eq_true rfl)⟩ dX3_passes_55
        · exact absurd c_27 (by omega)
      | succ z ih24 =>
        intro k σk al hkz twk fmk H locs ls hW hl
        obtain ⟨t0_k2, -, ta0_k2, ta1_k2, ta2_k2, ta3_k2, ta4_k2, ta5_k2, ta6_k2, ta7_k2, -, -⟩ := id twk
        have hIk := inv_mins hI k
        refine lv_iload F.x F.cd dX3_passes_24 (lv_at hl 4 rfl) ?_
        refine lv_iload_n F.x F.cd dX3_passes_26 rfl (lv_at hl 1 rfl) ?_
        refine n_icmp_ge (a := k) (b := n) (tgt := 43) F (by omega) (by omega) dX3_passes_27 (by decide) (fun c_27 => ?_) (fun c_27 => ?_)
        · exact absurd c_27 (by omega)
        · refine lv_iload_n F.x F.cd dX3_passes_30 rfl (lv_at hl 3 rfl) ?_
          refine lv_aload_n F.x F.cd dX3_passes_31 rfl (lv_at hl 0 rfl) ?_
          refine s_callV (As := []) (rest := [.int al]) (C := RX3) (T := TX3) (N := 18) (n := 0) F hW (k_X3_minute g l σk m A _ _ _ _  twk hIk) (t0_k2) rfl q2426 q2428 qs46 q79 q2429 rfl (by decide +kernel) rfl ⟨⟨Nat.le_of_ble_eq_true rfl, Nat.le_of_ble_eq_true rfl⟩, ⟨(Nat.le_of_ble_eq_true rfl), (Nat.le_of_ble_eq_true rfl)⟩⟩ (Nat.le_of_ble_eq_true rfl) hl.1 rfl dX3_passes_32 cX_no (fun r5 σ5 H locs hp5 hW => ?_)
          obtain ⟨rfl, tv5, fv5⟩ := hp5
          refine W.eq (g2 := F0 m_ 35 ls (.int (nI (flN (mins (ar 0) k) ((mins (ar 0) k) 1))) :: .int al :: [])) rfl ?_
          obtain ⟨t0_6, -, ta0_6, ta1_6, ta2_6, ta3_6, ta4_6, ta5_6, ta6_6, ta7_6, -, -⟩ := id tv5
          have fm_6 : Fm σ σ5 m A := (fmk).trans fv5
          have tw_6 : IsTw g σ5 m A iv wd (va_up ar 0 (minv (mins (ar 0) k))) rb := ⟨t0_6, tb0, ta0_6, ta1_6, ta2_6, ta3_6, ta4_6, ta5_6, ta6_6, ta7_6, tbb, tii⟩
          refine a_iadd (v := (al + (nI (flN (mins (ar 0) k) ((mins (ar 0) k) 1))))) F (rfl) dX3_passes_35 ?_
          refine lv_istore_n (lv' := [(3, .int (al + (nI (flN (mins (ar 0) k) ((mins (ar 0) k) 1))))), (0, .ref m), (1, .int (nI n)), (2, .int (nI (ar 0 5))), (4, .int (nI k))]) F.x F.cd dX3_passes_36 rfl hl (by decide) rfl (fun ls hl => ?_)
          refine lv_iinc (k := 4) (v := (nI (k + 1))) (lv' := [(4, .int (nI (k + 1))), (3, .int (al + (nI (flN (mins (ar 0) k) ((mins (ar 0) k) 1))))), (0, .ref m), (1, .int (nI n)), (2, .int (nI (ar 0 5)))]) F.x F.cd dX3_passes_37 hl rfl (inc_nI k 1) (by decide) rfl (fun ls hl => ?_)
          refine lv_goto (tgt := 24) F.x F.cd dX3_passes_40 (by decide) ?_
          have tw_8 : IsTw g σ5 m A iv wd (va_up ar 0 (mins (ar 0) (k + 1))) rb := by
            show IsTw g σ5 m A iv wd (va_up ar 0 (minv (mins (ar 0) k))) rb
            exact ⟨t0_6, tb0, ta0_6, ta1_6, ta2_6, ta3_6, ta4_6, ta5_6, ta6_6, ta7_6, tbb, tii⟩
          obtain ⟨t0_8, -, ta0_8, ta1_8, ta2_8, ta3_8, ta4_8, ta5_8, ta6_8, ta7_8, -, -⟩ := id tw_8
          exact ih24 (k + 1) σ5 (al + (nI (flN (mins (ar 0) k) ((mins (ar 0) k) 1)))) (by omega) (tw_8) (fm_6) H locs ls hW (lv_sub hl [2, 3, 4, 1, 0] rfl)
    exact loop24 (n) 0 _ (nI 0) (by omega) (hw) (Fm.refl) H locs ls hW (lv_sub hl [3, 4, 2, 1, 0] rfl)
  · refine lv_iconst (v := (nI 1)) F.x F.cd dX3_passes_10 (by decide) ?_
    subst hQ
    exact s_reti (v := (nI 1)) F hW rfl (TC.err "argument" (by rw [waitR, if_neg (by rw [c_7]; decide)]) (by decide) hw Fm.refl) ⟨(Nat.le_of_ble_eq_true rfl), (Nat.le_of_ble_eq_true rfl)⟩ dX3_passes_11
