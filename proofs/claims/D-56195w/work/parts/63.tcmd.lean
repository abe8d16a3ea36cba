/-! ===== the twin: commands ===== -/
set_option maxRecDepth 100000
set_option maxHeartbeats 4000000 in
theorem k_J19_bitCount (g : Gh) (l : Launch) (σ : Sto) (x : Int32)  : Ct g l yJ19_bitCount cJ19_bitCount 1 (some .int) ({ frames := 0, cells := 0, slots := 0, locals := 0 } : Room) [.int x] σ (fun r σ' => r = some (.int (bcI x)) ∧ σ' = σ) (nox) := by
  refine Ct.body (by decide) (Nat.le_of_ble_eq_true rfl) ?_
  intro p_ e_ s_ m_ args_ below_ meth_ c_ ls H locs Q F hW hl hQ
  have hl : lv_has ls 1 [(0, .int x)] := hl
  refine lv_iload_n F.x F.cd dJ19_bitCount_0 rfl (lv_at hl 0 rfl) ?_
  refine lv_iload_n F.x F.cd dJ19_bitCount_1 rfl (lv_at hl 0 rfl) ?_
  refine lv_iconst (v := (nI 1)) F.x F.cd dJ19_bitCount_2 (by decide) ?_
  refine lv_iushr (v := ((Int32.toUInt32 x >>> (Int32.toUInt32 (nI 1) &&& Int32.toUInt32 31)).toInt32)) F.x F.cd dJ19_bitCount_3 (rfl) ?_
  refine lv_ldcw (v := (nI 1431655765)) F.x F.cd F.ow (F.ts _ q2449) dJ19_bitCount_4 ?_
  refine a_iand (v := (((Int32.toUInt32 x >>> (Int32.toUInt32 (nI 1) &&& Int32.toUInt32 31)).toInt32) &&& (nI 1431655765))) F (rfl) dJ19_bitCount_7 ?_
  refine a_isub (v := (x - (((Int32.toUInt32 x >>> (Int32.toUInt32 (nI 1) &&& Int32.toUInt32 31)).toInt32) &&& (nI 1431655765)))) F (rfl) dJ19_bitCount_8 ?_
  refine lv_istore_n (lv' := [(0, .int (x - (((Int32.toUInt32 x >>> (Int32.toUInt32 (nI 1) &&& Int32.toUInt32 31)).toInt32) &&& (nI 1431655765))))]) F.x F.cd dJ19_bitCount_9 rfl hl (by decide) rfl (fun ls hl => ?_)
  have hl : lv_has ls 1 [(0, .int (bc1 x))] := by skip; exact hl
  refine lv_iload_n F.x F.cd dJ19_bitCount_10 rfl (lv_at hl 0 rfl) ?_
  refine lv_ldcw (v := (nI 858993459)) F.x F.cd F.ow (F.ts _ q2450) dJ19_bitCount_11 ?_
  refine a_iand (v := ((bc1 x) &&& (nI 858993459))) F (rfl) dJ19_bitCount_14 ?_
  refine lv_iload_n F.x F.cd dJ19_bitCount_15 rfl (lv_at hl 0 rfl) ?_
  refine lv_iconst (v := (nI 2)) F.x F.cd dJ19_bitCount_16 (by decide) ?_
  refine lv_iushr (v := ((Int32.toUInt32 (bc1 x) >>> (Int32.toUInt32 (nI 2) &&& Int32.toUInt32 31)).toInt32)) F.x F.cd dJ19_bitCount_17 (rfl) ?_
  refine lv_ldcw (v := (nI 858993459)) F.x F.cd F.ow (F.ts _ q2450) dJ19_bitCount_18 ?_
  refine a_iand (v := (((Int32.toUInt32 (bc1 x) >>> (Int32.toUInt32 (nI 2) &&& Int32.toUInt32 31)).toInt32) &&& (nI 858993459))) F (rfl) dJ19_bitCount_21 ?_
  refine a_iadd (v := (((bc1 x) &&& (nI 858993459)) + (((Int32.toUInt32 (bc1 x) >>> (Int32.toUInt32 (nI 2) &&& Int32.toUInt32 31)).toInt32) &&& (nI 858993459)))) F (rfl) dJ19_bitCount_22 ?_
  refine lv_istore_n (lv' := [(0, .int (((bc1 x) &&& (nI 858993459)) + (((Int32.toUInt32 (bc1 x) >>> (Int32.toUInt32 (nI 2) &&& Int32.toUInt32 31)).toInt32) &&& (nI 858993459))))]) F.x F.cd dJ19_bitCount_23 rfl hl (by decide) rfl (fun ls hl => ?_)
  have hl : lv_has ls 1 [(0, .int (bc2 x))] := by skip; exact hl
  refine lv_iload_n F.x F.cd dJ19_bitCount_24 rfl (lv_at hl 0 rfl) ?_
  refine lv_iload_n F.x F.cd dJ19_bitCount_25 rfl (lv_at hl 0 rfl) ?_
  refine lv_iconst (v := (nI 4)) F.x F.cd dJ19_bitCount_26 (by decide) ?_
  refine lv_iushr (v := ((Int32.toUInt32 (bc2 x) >>> (Int32.toUInt32 (nI 4) &&& Int32.toUInt32 31)).toInt32)) F.x F.cd dJ19_bitCount_27 (rfl) ?_
  refine a_iadd (v := ((bc2 x) + ((Int32.toUInt32 (bc2 x) >>> (Int32.toUInt32 (nI 4) &&& Int32.toUInt32 31)).toInt32))) F (rfl) dJ19_bitCount_28 ?_
  refine lv_ldcw (v := (nI 252645135)) F.x F.cd F.ow (F.ts _ q2451) dJ19_bitCount_29 ?_
  refine a_iand (v := (((bc2 x) + ((Int32.toUInt32 (bc2 x) >>> (Int32.toUInt32 (nI 4) &&& Int32.toUInt32 31)).toInt32)) &&& (nI 252645135))) F (rfl) dJ19_bitCount_32 ?_
  refine lv_istore_n (lv' := [(0, .int (((bc2 x) + ((Int32.toUInt32 (bc2 x) >>> (Int32.toUInt32 (nI 4) &&& Int32.toUInt32 31)).toInt32)) &&& (nI 252645135)))]) F.x F.cd dJ19_bitCount_33 rfl hl (by decide) rfl (fun ls hl => ?_)
  have hl : lv_has ls 1 [(0, .int (bc3 x))] := by skip; exact hl
  refine lv_iload_n F.x F.cd dJ19_bitCount_34 rfl (lv_at hl 0 rfl) ?_
  refine lv_iload_n F.x F.cd dJ19_bitCount_35 rfl (lv_at hl 0 rfl) ?_
  refine lv_bipush (v := (nI 8)) F.x F.cd dJ19_bitCount_36 (by decide) ?_
  refine lv_iushr (v := ((Int32.toUInt32 (bc3 x) >>> (Int32.toUInt32 (nI 8) &&& Int32.toUInt32 31)).toInt32)) F.x F.cd dJ19_bitCount_38 (rfl) ?_
  refine a_iadd (v := ((bc3 x) + ((Int32.toUInt32 (bc3 x) >>> (Int32.toUInt32 (nI 8) &&& Int32.toUInt32 31)).toInt32))) F (rfl) dJ19_bitCount_39 ?_
  refine lv_istore_n (lv' := [(0, .int ((bc3 x) + ((Int32.toUInt32 (bc3 x) >>> (Int32.toUInt32 (nI 8) &&& Int32.toUInt32 31)).toInt32)))]) F.x F.cd dJ19_bitCount_40 rfl hl (by decide) rfl (fun ls hl => ?_)
  have hl : lv_has ls 1 [(0, .int (bc4 x))] := by skip; exact hl
  refine lv_iload_n F.x F.cd dJ19_bitCount_41 rfl (lv_at hl 0 rfl) ?_
  refine lv_iload_n F.x F.cd dJ19_bitCount_42 rfl (lv_at hl 0 rfl) ?_
  refine lv_bipush (v := (nI 16)) F.x F.cd dJ19_bitCount_43 (by decide) ?_
  refine lv_iushr (v := ((Int32.toUInt32 (bc4 x) >>> (Int32.toUInt32 (nI 16) &&& Int32.toUInt32 31)).toInt32)) F.x F.cd dJ19_bitCount_45 (rfl) ?_
  refine a_iadd (v := ((bc4 x) + ((Int32.toUInt32 (bc4 x) >>> (Int32.toUInt32 (nI 16) &&& Int32.toUInt32 31)).toInt32))) F (rfl) dJ19_bitCount_46 ?_
  refine lv_istore_n (lv' := [(0, .int ((bc4 x) + ((Int32.toUInt32 (bc4 x) >>> (Int32.toUInt32 (nI 16) &&& Int32.toUInt32 31)).toInt32)))]) F.x F.cd dJ19_bitCount_47 rfl hl (by decide) rfl (fun ls hl => ?_)
  have hl : lv_has ls 1 [(0, .int (bc5 x))] := by skip; exact hl
  refine lv_iload_n F.x F.cd dJ19_bitCount_48 rfl (lv_at hl 0 rfl) ?_
  refine lv_bipush (v := (nI 63)) F.x F.cd dJ19_bitCount_49 (by decide) ?_
  refine a_iand (v := ((bc5 x) &&& (nI 63))) F (rfl) dJ19_bitCount_51 ?_
  subst hQ
  exact s_reti (v := ((bc5 x) &&& (nI 63))) F hW rfl (⟨rfl, rfl⟩) ⟨(Nat.le_of_ble_eq_true rfl), (Nat.le_of_ble_eq_true rfl)⟩ dJ19_bitCount_52
set_option maxHeartbeats 4000000 in
theorem k_X3_tanks (g : Gh) (l : Launch) (σ : Sto) (m : Nat) (A : Nat → Nat) (iv : Nat → Int32) (wd : Nat) (ar : Nat → Nat → Nat) (rb : Nat → Bool) (c : Int32) (hw : IsTw g σ m A iv wd ar rb) (hI : Inv (ar 0)) : Ct g l yX3_tanks cX3_tanks 3 (some .int) ({ frames := 1, cells := 0, slots := 0, locals := 22 } : Room) [.ref m, .int c] σ (fun r σ' => TC g σ m A iv wd ar rb (tankR (ar 0) c) en2 r σ') (nox) := by
  refine Ct.body (by decide) (Nat.le_of_ble_eq_true rfl) ?_
  intro p_ e_ s_ m_ args_ below_ meth_ c_ ls H locs Q F hW hl hQ
  have hl : lv_has ls 3 [(0, .ref m), (1, .int c)] := hl
  obtain ⟨t0, tb0, ta0, ta1, ta2, ta3, ta4, ta5, ta6, ta7, tbb, tii⟩ := id hw
  have hv0 := hI.1
  have hv1 := hI.2.1
  refine lv_iload_n F.x F.cd dX3_tanks_0 rfl (lv_at hl 1 rfl) ?_
  refine lv_bipush (v := (nI 10)) F.x F.cd dX3_tanks_1 (by decide) ?_
  refine lv_sipush (v := (nI 999)) F.x F.cd dX3_tanks_3 (by decide) ?_
  refine s_callS (As := [.int c, .int (nI 10), .int (nI 999)]) (rest := []) (n := 3) F hW (k_X3_in g l σ c (nI 10) (nI 999)) q2351 q2352 q79 q2353 (by decide +kernel) rfl ⟨⟨Nat.le_of_ble_eq_true rfl, Nat.le_of_ble_eq_true rfl⟩, ⟨(Nat.le_of_ble_eq_true rfl), (Nat.le_of_ble_eq_true rfl)⟩⟩ (Nat.le_of_ble_eq_true rfl) hl.1 rfl dX3_tanks_6 cX_no (fun r1 σ1 H locs hp1 hW => ?_)
  obtain ⟨rfl, hs1⟩ := hp1
  rw [hs1] at hW
  refine W.eq (g2 := F0 m_ 9 ls (.int (bI (btw c (nI 10) (nI 999))) :: [])) rfl ?_
  refine b_if_ne (b := (btw c (nI 10) (nI 999))) (tgt := 14) F dX3_tanks_9 (by decide) (fun c_9 => ?_) (fun c_9 => ?_)
  · obtain ⟨n, hn1, hn2, rfl⟩ := (btw_iff (by decide) (by decide)).mp c_9
    refine lv_aload_n F.x F.cd dX3_tanks_14 rfl (lv_at hl 0 rfl) ?_
    refine s_get F hW (ci := 7) (C := RX3) (T := TX3) (N := 18) (v := .ref (A 0)) (t0) rfl in_X3 0 (by decide) q2279 (fun _ h9 => h9) rfl dX3_tanks_15 ?_
    refine lv_iconst (v := (nI 0)) F.x F.cd dX3_tanks_18 (by decide) ?_
    refine n_iald (i := 0) (n := 114) (f := (fun x9 => nI ((ar 0) x9))) (x := (nI (ar 0 0))) F hW (ta0) (by omega) (by omega) (rfl) dX3_tanks_19 ?_
    refine lv_bipush (v := (nI 8)) F.x F.cd dX3_tanks_20 (by decide) ?_
    refine n_icmp_ne (a := ar 0 0) (b := 8) (tgt := 27) F (by omega) (by omega) dX3_tanks_22 (by decide) (fun c_22 => ?_) (fun c_22 => ?_)
    · refine lv_aload_n F.x F.cd dX3_tanks_27 rfl (lv_at hl 0 rfl) ?_
      refine s_get F hW (ci := 7) (C := RX3) (T := TX3) (N := 18) (v := .ref (A 0)) (t0) rfl in_X3 0 (by decide) q2279 (fun _ h9 => h9) rfl dX3_tanks_28 ?_
      refine lv_iconst (v := (nI 0)) F.x F.cd dX3_tanks_31 (by decide) ?_
      refine lv_dup2_11 F.x F.cd dX3_tanks_32 rfl rfl ?_
      refine n_iald (i := 0) (n := 114) (f := (fun x9 => nI ((ar 0) x9))) (x := (nI (ar 0 0))) F hW (ta0) (by omega) (by omega) (rfl) dX3_tanks_33 ?_
      refine lv_dup_x2 F.x F.cd dX3_tanks_34 rfl rfl rfl ?_
      refine lv_iconst (v := (nI 1)) F.x F.cd dX3_tanks_35 (by decide) ?_
      refine a_iadd (v := (nI (ar 0 0 + 1))) F (nI_add _ _) dX3_tanks_36 ?_
      refine n_iastN (i := 0) F hW (ta0) (tbb 0 (by decide)) (by omega) (by omega) dX3_tanks_37 (fun H locs hW => ?_)
      obtain ⟨σ2, hσ2⟩ : ∃ z, z = sset σ (A 0) (eI g 0 114 (fun x9 => nI ((va_up (ar 0) 0 (ar 0 0 + 1)) x9))) := ⟨_, rfl⟩
      have hW : Hl g σ2 H locs := by rw [hσ2]; exact hW
      have w2 : σ2 (A 0) = some (eI g 0 114 (fun x9 => nI ((va_up (ar 0) 0 (ar 0 0 + 1)) x9))) := by rw [hσ2]; exact sset_eq
      have f3 : σ2 m = some (.inr (7, [.ref (A 0), .ref (A 1), .ref (A 2), .int (iv 3), .ref (A 3), .int (iv 5), .ref (A 4), .ref (A 5), .int (iv 8), .ref (A 6), .int (iv 10), .int (iv 11), .ref wd, .ref (A 7), .int (iv 14), .int (iv 15), .int (iv 16), .int (iv 17)])) := by rw [hσ2, sset_ne (sto_ne ta0 t0 (by simp))]; exact t0
      have f4 : σ2 (A 1) = some (eI g 0 114 (fun x9 => nI ((ar 1) x9))) := by rw [hσ2, sset_ne (fun q9 => absurd (tii 1 0 (by decide) (by decide) q9) (by decide))]; exact ta1
      have f5 : σ2 (A 2) = some (eI g 0 912 (fun x9 => nI ((ar 2) x9))) := by rw [hσ2, sset_ne (fun q9 => absurd (tii 2 0 (by decide) (by decide) q9) (by decide))]; exact ta2
      have f6 : σ2 (A 3) = some (eI g 0 114 (fun x9 => nI ((ar 3) x9))) := by rw [hσ2, sset_ne (fun q9 => absurd (tii 3 0 (by decide) (by decide) q9) (by decide))]; exact ta3
      have f7 : σ2 (A 4) = some (eI g 2 2048 (fun x9 => bI (rb x9))) := by rw [hσ2, sset_ne (fun q9 => absurd (tii 4 0 (by decide) (by decide) q9) (by decide))]; exact ta4
      have f8 : σ2 (A 5) = some (eI g 3 60 (fun x9 => nI ((ar 5) x9))) := by rw [hσ2, sset_ne (fun q9 => absurd (tii 5 0 (by decide) (by decide) q9) (by decide))]; exact ta5
      have f9 : σ2 (A 6) = some (eI g 3 60 (fun x9 => nI ((ar 6) x9))) := by rw [hσ2, sset_ne (fun q9 => absurd (tii 6 0 (by decide) (by decide) q9) (by decide))]; exact ta6
      have f10 : σ2 (A 7) = some (eI g 0 3 (fun x9 => nI ((ar 7) x9))) := by rw [hσ2, sset_ne (fun q9 => absurd (tii 7 0 (by decide) (by decide) q9) (by decide))]; exact ta7
      refine lv_istore_n (lv' := [(2, .int (nI (ar 0 0))), (0, .ref m), (1, .int (nI n))]) F.x F.cd dX3_tanks_38 rfl hl (by decide) rfl (fun ls hl => ?_)
      refine lv_aload_n F.x F.cd dX3_tanks_39 rfl (lv_at hl 1 rfl) ?_
      refine s_get F hW (ci := 7) (C := RX3) (T := TX3) (N := 18) (v := .ref (A 0)) (f3) rfl in_X3 0 (by decide) q2279 (fun _ h9 => h9) rfl dX3_tanks_40 ?_
      refine lv_bipush (v := (nI 6)) F.x F.cd dX3_tanks_43 (by decide) ?_
      refine lv_iconst (v := (nI 3)) F.x F.cd dX3_tanks_45 (by decide) ?_
      refine lv_iload_n F.x F.cd dX3_tanks_46 rfl (lv_at hl 0 rfl) ?_
      refine a_imul (v := (nI (3 * (ar 0 0)))) F (pk_mul _ _) dX3_tanks_47 ?_
      refine a_iadd (v := (nI (6 + (3 * (ar 0 0))))) F (nI_add _ _) dX3_tanks_48 ?_
      refine lv_iload_n F.x F.cd dX3_tanks_49 rfl (lv_at hl 2 rfl) ?_
      refine n_iastN (i := 6 + (3 * (ar 0 0))) F hW (w2) (tbb 0 (by decide)) (by omega) (by omega) dX3_tanks_50 (fun H locs hW => ?_)
      obtain ⟨σ11, hσ11⟩ : ∃ z, z = sset σ2 (A 0) (eI g 0 114 (fun x9 => nI ((va_up (va_up (ar 0) 0 (ar 0 0 + 1)) (6 + (3 * (ar 0 0))) n) x9))) := ⟨_, rfl⟩
      have hW : Hl g σ11 H locs := by rw [hσ11]; exact hW
      have w11 : σ11 (A 0) = some (eI g 0 114 (fun x9 => nI ((va_up (va_up (ar 0) 0 (ar 0 0 + 1)) (6 + (3 * (ar 0 0))) n) x9))) := by rw [hσ11]; exact sset_eq
      have f12 : σ11 m = some (.inr (7, [.ref (A 0), .ref (A 1), .ref (A 2), .int (iv 3), .ref (A 3), .int (iv 5), .ref (A 4), .ref (A 5), .int (iv 8), .ref (A 6), .int (iv 10), .int (iv 11), .ref wd, .ref (A 7), .int (iv 14), .int (iv 15), .int (iv 16), .int (iv 17)])) := by rw [hσ11, sset_ne (sto_ne w2 f3 (by simp))]; exact f3
      have f13 : σ11 (A 1) = some (eI g 0 114 (fun x9 => nI ((ar 1) x9))) := by rw [hσ11, sset_ne (fun q9 => absurd (tii 1 0 (by decide) (by decide) q9) (by decide))]; exact f4
      have f14 : σ11 (A 2) = some (eI g 0 912 (fun x9 => nI ((ar 2) x9))) := by rw [hσ11, sset_ne (fun q9 => absurd (tii 2 0 (by decide) (by decide) q9) (by decide))]; exact f5
      have f15 : σ11 (A 3) = some (eI g 0 114 (fun x9 => nI ((ar 3) x9))) := by rw [hσ11, sset_ne (fun q9 => absurd (tii 3 0 (by decide) (by decide) q9) (by decide))]; exact f6
      have f16 : σ11 (A 4) = some (eI g 2 2048 (fun x9 => bI (rb x9))) := by rw [hσ11, sset_ne (fun q9 => absurd (tii 4 0 (by decide) (by decide) q9) (by decide))]; exact f7
      have f17 : σ11 (A 5) = some (eI g 3 60 (fun x9 => nI ((ar 5) x9))) := by rw [hσ11, sset_ne (fun q9 => absurd (tii 5 0 (by decide) (by decide) q9) (by decide))]; exact f8
      have f18 : σ11 (A 6) = some (eI g 3 60 (fun x9 => nI ((ar 6) x9))) := by rw [hσ11, sset_ne (fun q9 => absurd (tii 6 0 (by decide) (by decide) q9) (by decide))]; exact f9
      have f19 : σ11 (A 7) = some (eI g 0 3 (fun x9 => nI ((ar 7) x9))) := by rw [hσ11, sset_ne (fun q9 => absurd (tii 7 0 (by decide) (by decide) q9) (by decide))]; exact f10
      refine lv_aload_n F.x F.cd dX3_tanks_51 rfl (lv_at hl 1 rfl) ?_
      refine s_get F hW (ci := 7) (C := RX3) (T := TX3) (N := 18) (v := .ref (A 0)) (f12) rfl in_X3 0 (by decide) q2279 (fun _ h9 => h9) rfl dX3_tanks_52 ?_
      refine lv_bipush (v := (nI 6)) F.x F.cd dX3_tanks_55 (by decide) ?_
      refine lv_iconst (v := (nI 3)) F.x F.cd dX3_tanks_57 (by decide) ?_
      refine lv_iload_n F.x F.cd dX3_tanks_58 rfl (lv_at hl 0 rfl) ?_
      refine a_imul (v := (nI (3 * (ar 0 0)))) F (pk_mul _ _) dX3_tanks_59 ?_
      refine a_iadd (v := (nI (6 + (3 * (ar 0 0))))) F (nI_add _ _) dX3_tanks_60 ?_
      refine lv_iconst (v := (nI 1)) F.x F.cd dX3_tanks_61 (by decide) ?_
      refine a_iadd (v := (nI (6 + (3 * (ar 0 0)) + 1))) F (nI_add _ _) dX3_tanks_62 ?_
      refine lv_iconst (v := (nI 0)) F.x F.cd dX3_tanks_63 (by decide) ?_
      refine n_iastN (i := 6 + (3 * (ar 0 0)) + 1) F hW (w11) (tbb 0 (by decide)) (by omega) (by omega) dX3_tanks_64 (fun H locs hW => ?_)
      obtain ⟨σ20, hσ20⟩ : ∃ z, z = sset σ11 (A 0) (eI g 0 114 (fun x9 => nI ((va_up (va_up (va_up (ar 0) 0 (ar 0 0 + 1)) (6 + (3 * (ar 0 0))) n) (6 + (3 * (ar 0 0)) + 1) 0) x9))) := ⟨_, rfl⟩
      have hW : Hl g σ20 H locs := by rw [hσ20]; exact hW
      have w20 : σ20 (A 0) = some (eI g 0 114 (fun x9 => nI ((va_up (va_up (va_up (ar 0) 0 (ar 0 0 + 1)) (6 + (3 * (ar 0 0))) n) (6 + (3 * (ar 0 0)) + 1) 0) x9))) := by rw [hσ20]; exact sset_eq
      have f21 : σ20 m = some (.inr (7, [.ref (A 0), .ref (A 1), .ref (A 2), .int (iv 3), .ref (A 3), .int (iv 5), .ref (A 4), .ref (A 5), .int (iv 8), .ref (A 6), .int (iv 10), .int (iv 11), .ref wd, .ref (A 7), .int (iv 14), .int (iv 15), .int (iv 16), .int (iv 17)])) := by rw [hσ20, sset_ne (sto_ne w11 f12 (by simp))]; exact f12
      have f22 : σ20 (A 1) = some (eI g 0 114 (fun x9 => nI ((ar 1) x9))) := by rw [hσ20, sset_ne (fun q9 => absurd (tii 1 0 (by decide) (by decide) q9) (by decide))]; exact f13
      have f23 : σ20 (A 2) = some (eI g 0 912 (fun x9 => nI ((ar 2) x9))) := by rw [hσ20, sset_ne (fun q9 => absurd (tii 2 0 (by decide) (by decide) q9) (by decide))]; exact f14
      have f24 : σ20 (A 3) = some (eI g 0 114 (fun x9 => nI ((ar 3) x9))) := by rw [hσ20, sset_ne (fun q9 => absurd (tii 3 0 (by decide) (by decide) q9) (by decide))]; exact f15
      have f25 : σ20 (A 4) = some (eI g 2 2048 (fun x9 => bI (rb x9))) := by rw [hσ20, sset_ne (fun q9 => absurd (tii 4 0 (by decide) (by decide) q9) (by decide))]; exact f16
      have f26 : σ20 (A 5) = some (eI g 3 60 (fun x9 => nI ((ar 5) x9))) := by rw [hσ20, sset_ne (fun q9 => absurd (tii 5 0 (by decide) (by decide) q9) (by decide))]; exact f17
      have f27 : σ20 (A 6) = some (eI g 3 60 (fun x9 => nI ((ar 6) x9))) := by rw [hσ20, sset_ne (fun q9 => absurd (tii 6 0 (by decide) (by decide) q9) (by decide))]; exact f18
      have f28 : σ20 (A 7) = some (eI g 0 3 (fun x9 => nI ((ar 7) x9))) := by rw [hσ20, sset_ne (fun q9 => absurd (tii 7 0 (by decide) (by decide) q9) (by decide))]; exact f19
      refine lv_aload_n F.x F.cd dX3_tanks_65 rfl (lv_at hl 1 rfl) ?_
      refine s_get F hW (ci := 7) (C := RX3) (T := TX3) (N := 18) (v := .ref (A 0)) (f21) rfl in_X3 0 (by decide) q2279 (fun _ h9 => h9) rfl dX3_tanks_66 ?_
      refine lv_bipush (v := (nI 6)) F.x F.cd dX3_tanks_69 (by decide) ?_
      refine lv_iconst (v := (nI 3)) F.x F.cd dX3_tanks_71 (by decide) ?_
      refine lv_iload_n F.x F.cd dX3_tanks_72 rfl (lv_at hl 0 rfl) ?_
      refine a_imul (v := (nI (3 * (ar 0 0)))) F (pk_mul _ _) dX3_tanks_73 ?_
      refine a_iadd (v := (nI (6 + (3 * (ar 0 0))))) F (nI_add _ _) dX3_tanks_74 ?_
      refine lv_iconst (v := (nI 2)) F.x F.cd dX3_tanks_75 (by decide) ?_
      refine a_iadd (v := (nI (6 + (3 * (ar 0 0)) + 2))) F (nI_add _ _) dX3_tanks_76 ?_
      refine lv_iconst (v := (nI 0)) F.x F.cd dX3_tanks_77 (by decide) ?_
      refine n_iastN (i := 6 + (3 * (ar 0 0)) + 2) F hW (w20) (tbb 0 (by decide)) (by omega) (by omega) dX3_tanks_78 (fun H locs hW => ?_)
      obtain ⟨σ29, hσ29⟩ : ∃ z, z = sset σ20 (A 0) (eI g 0 114 (fun x9 => nI ((va_up (va_up (va_up (va_up (ar 0) 0 (ar 0 0 + 1)) (6 + (3 * (ar 0 0))) n) (6 + (3 * (ar 0 0)) + 1) 0) (6 + (3 * (ar 0 0)) + 2) 0) x9))) := ⟨_, rfl⟩
      have hW : Hl g σ29 H locs := by rw [hσ29]; exact hW
      have w29 : σ29 (A 0) = some (eI g 0 114 (fun x9 => nI ((va_up (va_up (va_up (va_up (ar 0) 0 (ar 0 0 + 1)) (6 + (3 * (ar 0 0))) n) (6 + (3 * (ar 0 0)) + 1) 0) (6 + (3 * (ar 0 0)) + 2) 0) x9))) := by rw [hσ29]; exact sset_eq
      have f30 : σ29 m = some (.inr (7, [.ref (A 0), .ref (A 1), .ref (A 2), .int (iv 3), .ref (A 3), .int (iv 5), .ref (A 4), .ref (A 5), .int (iv 8), .ref (A 6), .int (iv 10), .int (iv 11), .ref wd, .ref (A 7), .int (iv 14), .int (iv 15), .int (iv 16), .int (iv 17)])) := by rw [hσ29, sset_ne (sto_ne w20 f21 (by simp))]; exact f21
      have f31 : σ29 (A 1) = some (eI g 0 114 (fun x9 => nI ((ar 1) x9))) := by rw [hσ29, sset_ne (fun q9 => absurd (tii 1 0 (by decide) (by decide) q9) (by decide))]; exact f22
      have f32 : σ29 (A 2) = some (eI g 0 912 (fun x9 => nI ((ar 2) x9))) := by rw [hσ29, sset_ne (fun q9 => absurd (tii 2 0 (by decide) (by decide) q9) (by decide))]; exact f23
      have f33 : σ29 (A 3) = some (eI g 0 114 (fun x9 => nI ((ar 3) x9))) := by rw [hσ29, sset_ne (fun q9 => absurd (tii 3 0 (by decide) (by decide) q9) (by decide))]; exact f24
      have f34 : σ29 (A 4) = some (eI g 2 2048 (fun x9 => bI (rb x9))) := by rw [hσ29, sset_ne (fun q9 => absurd (tii 4 0 (by decide) (by decide) q9) (by decide))]; exact f25
      have f35 : σ29 (A 5) = some (eI g 3 60 (fun x9 => nI ((ar 5) x9))) := by rw [hσ29, sset_ne (fun q9 => absurd (tii 5 0 (by decide) (by decide) q9) (by decide))]; exact f26
      have f36 : σ29 (A 6) = some (eI g 3 60 (fun x9 => nI ((ar 6) x9))) := by rw [hσ29, sset_ne (fun q9 => absurd (tii 6 0 (by decide) (by decide) q9) (by decide))]; exact f27
      have f37 : σ29 (A 7) = some (eI g 0 3 (fun x9 => nI ((ar 7) x9))) := by rw [hσ29, sset_ne (fun q9 => absurd (tii 7 0 (by decide) (by decide) q9) (by decide))]; exact f28
      refine lv_aload_n F.x F.cd dX3_tanks_79 rfl (lv_at hl 1 rfl) ?_
      refine lv_iload_n F.x F.cd dX3_tanks_80 rfl (lv_at hl 0 rfl) ?_
      have tw38 : IsTw g σ29 m A iv wd (va_up ar 0 (va_up (va_up (va_up (va_up (ar 0) 0 (ar 0 0 + 1)) (6 + (3 * (ar 0 0))) n) (6 + (3 * (ar 0 0)) + 1) 0) (6 + (3 * (ar 0 0)) + 2) 0)) rb := ⟨f30, tb0, w29, f31, f32, f33, f34, f35, f36, f37, tbb, tii⟩
      have fm38 : Fm σ σ29 m A := by rw [hσ29, hσ20, hσ11, hσ2]; exact ((((Fm.refl).setA 0 (by decide)).setA 0 (by decide)).setA 0 (by decide)).setA 0 (by decide)
      refine s_callV (As := [.int (nI (ar 0 0))]) (rest := []) (C := RX3) (T := TX3) (N := 18) (n := 1) F hW (k_X3_does g l σ29 m A _ _ _ _ (nI (ar 0 0)) tw38 ) (f30) rfl q2354 q2356 qs35 q79 q2357 rfl (by decide +kernel) rfl ⟨⟨Nat.le_of_ble_eq_true rfl, Nat.le_of_ble_eq_true rfl⟩, ⟨(Nat.le_of_ble_eq_true rfl), (Nat.le_of_ble_eq_true rfl)⟩⟩ (Nat.le_of_ble_eq_true rfl) hl.1 rfl dX3_tanks_81 cX_no (fun r39 σ39 H locs hp39 hW => ?_)
      obtain ⟨rfl, tv39, fv39⟩ := hp39
      refine W.eq (g2 := F0 m_ 84 ls (.int (nI 0) :: [])) rfl ?_
      obtain ⟨t0_40, -, ta0_40, ta1_40, ta2_40, ta3_40, ta4_40, ta5_40, ta6_40, ta7_40, -, -⟩ := id tv39
      have fm_40 : Fm σ σ39 m A := (fm38).trans fv39
      have tw_40 : IsTw g σ39 m A (va_up iv 16 (nI (ar 0 0))) wd (va_up ar 0 (va_up (va_up (va_up (va_up (ar 0) 0 (ar 0 0 + 1)) (6 + (3 * (ar 0 0))) n) (6 + (3 * (ar 0 0)) + 1) 0) (6 + (3 * (ar 0 0)) + 2) 0)) rb := ⟨t0_40, tb0, ta0_40, ta1_40, ta2_40, ta3_40, ta4_40, ta5_40, ta6_40, ta7_40, tbb, tii⟩
      have tw_41 : IsTw g σ39 m A (va_up iv 16 (nI (ar 0 0))) wd (va_up ar 0 (va_up (upT (ar 0) (ar 0 0) n 0 0) 0 (ar 0 0 + 1))) rb := by
        rw [← tw_tank]
        exact ⟨t0_40, tb0, ta0_40, ta1_40, ta2_40, ta3_40, ta4_40, ta5_40, ta6_40, ta7_40, tbb, tii⟩
      obtain ⟨t0_41, -, ta0_41, ta1_41, ta2_41, ta3_41, ta4_41, ta5_41, ta6_41, ta7_41, -, -⟩ := id tw_41
      subst hQ
      exact s_reti (v := (nI 0)) F hW rfl (TC.ok (by rw [tankR, if_pos c_9, if_pos (by omega), cl_nI (by omega)]) tw_41 fm_40) ⟨(Nat.le_of_ble_eq_true rfl), (Nat.le_of_ble_eq_true rfl)⟩ dX3_tanks_84
    · refine lv_iconst (v := (nI 2)) F.x F.cd dX3_tanks_25 (by decide) ?_
      subst hQ
      exact s_reti (v := (nI 2)) F hW rfl (TC.err "state" (by rw [tankR, if_pos c_9, if_neg (by omega)]) (by decide) hw Fm.refl) ⟨(Nat.le_of_ble_eq_true rfl), (Nat.le_of_ble_eq_true rfl)⟩ dX3_tanks_26
  · refine lv_iconst (v := (nI 1)) F.x F.cd dX3_tanks_12 (by decide) ?_
    subst hQ
    exact s_reti (v := (nI 1)) F hW rfl (TC.err "argument" (by rw [tankR, if_neg (by rw [c_9]; decide)]) (by decide) hw Fm.refl) ⟨(Nat.le_of_ble_eq_true rfl), (Nat.le_of_ble_eq_true rfl)⟩ dX3_tanks_13
set_option maxHeartbeats 4000000 in
theorem k_X3_pipes (g : Gh) (l : Launch) (σ : Sto) (m : Nat) (A : Nat → Nat) (iv : Nat → Int32) (wd : Nat) (ar : Nat → Nat → Nat) (rb : Nat → Bool) (a b w : Int32) (hw : IsTw g σ m A iv wd ar rb) (hI : Inv (ar 0)) : Ct g l yX3_pipes cX3_pipes 7 (some .int) ({ frames := 2, cells := 1, slots := 7, locals := 43 } : Room) [.ref m, .int a, .int b, .int w] σ (fun r σ' => TC g σ m A iv wd ar rb (pipeR (ar 0) a b w) en3 r σ') (nox) := by
  refine Ct.body (by decide) (Nat.le_of_ble_eq_true rfl) ?_
  intro p_ e_ s_ m_ args_ below_ meth_ c_ ls H locs Q F hW hl hQ
  have hl : lv_has ls 7 [(0, .ref m), (1, .int a), (2, .int b), (3, .int w)] := hl
  obtain ⟨t0, tb0, ta0, ta1, ta2, ta3, ta4, ta5, ta6, ta7, tbb, tii⟩ := id hw
  have hv0 := hI.1
  have hv1 := hI.2.1
  refine lv_aload_n F.x F.cd dX3_pipes_0 rfl (lv_at hl 0 rfl) ?_
  refine lv_iload_n F.x F.cd dX3_pipes_1 rfl (lv_at hl 1 rfl) ?_
  refine s_callV (As := [.int a]) (rest := []) (C := RX3) (T := TX3) (N := 18) (n := 1) F hW (k_X3_isTank g l σ m A _ _ _ _ a hw ) (t0) rfl q2374 q2376 qs39 q79 q2377 rfl (by decide +kernel) rfl ⟨⟨Nat.le_of_ble_eq_true rfl, Nat.le_of_ble_eq_true rfl⟩, ⟨(Nat.le_of_ble_eq_true rfl), (Nat.le_of_ble_eq_true rfl)⟩⟩ (Nat.le_of_ble_eq_true rfl) hl.1 rfl dX3_pipes_2 cX_no (fun r1 σ1 H locs hp1 hW => ?_)
  obtain ⟨rfl, hs1⟩ := hp1
  rw [hs1] at hW
  refine W.eq (g2 := F0 m_ 5 ls (.int (bI (inN a ((ar 0) 0))) :: [])) rfl ?_
  refine b_if_eq (b := (inN a ((ar 0) 0))) (tgt := 16) F dX3_pipes_5 (by decide) (fun c_5 => ?_) (fun c_5 => ?_)
  · refine lv_iconst (v := (nI 1)) F.x F.cd dX3_pipes_16 (by decide) ?_
    subst hQ
    exact s_reti (v := (nI 1)) F hW rfl (TC.err "index" (by rw [pipeR, if_neg (by simp [c_5])]) (by decide) hw Fm.refl) ⟨(Nat.le_of_ble_eq_true rfl), (Nat.le_of_ble_eq_true rfl)⟩ dX3_pipes_17
  · refine lv_aload_n F.x F.cd dX3_pipes_8 rfl (lv_at hl 0 rfl) ?_
    refine lv_iload_n F.x F.cd dX3_pipes_9 rfl (lv_at hl 2 rfl) ?_
    refine s_callV (As := [.int b]) (rest := []) (C := RX3) (T := TX3) (N := 18) (n := 1) F hW (k_X3_isTank g l σ m A _ _ _ _ b hw ) (t0) rfl q2374 q2376 qs39 q79 q2377 rfl (by decide +kernel) rfl ⟨⟨Nat.le_of_ble_eq_true rfl, Nat.le_of_ble_eq_true rfl⟩, ⟨(Nat.le_of_ble_eq_true rfl), (Nat.le_of_ble_eq_true rfl)⟩⟩ (Nat.le_of_ble_eq_true rfl) hl.1 rfl dX3_pipes_10 cX_no (fun r2 σ2 H locs hp2 hW => ?_)
    obtain ⟨rfl, hs2⟩ := hp2
    rw [hs2] at hW
    refine W.eq (g2 := F0 m_ 13 ls (.int (bI (inN b ((ar 0) 0))) :: [])) rfl ?_
    refine b_if_ne (b := (inN b ((ar 0) 0))) (tgt := 18) F dX3_pipes_13 (by decide) (fun c_13 => ?_) (fun c_13 => ?_)
    · obtain ⟨i, hi, rfl⟩ := (inN_iff (show ar 0 0 < 2 ^ 30 by omega)).mp c_5
      obtain ⟨j, hj, rfl⟩ := (inN_iff (show ar 0 0 < 2 ^ 30 by omega)).mp c_13
      refine lv_iload_n F.x F.cd dX3_pipes_18 rfl (lv_at hl 1 rfl) ?_
      refine lv_iload_n F.x F.cd dX3_pipes_19 rfl (lv_at hl 2 rfl) ?_
      refine n_icmp_eq (a := i) (b := j) (tgt := 34) F (by omega) (by omega) dX3_pipes_20 (by decide) (fun c_20 => ?_) (fun c_20 => ?_)
      · refine lv_iconst (v := (nI 2)) F.x F.cd dX3_pipes_34 (by decide) ?_
        subst hQ
        exact s_reti (v := (nI 2)) F hW rfl (TC.err "argument" (by rw [pipeR, if_pos (by simp [c_5, c_13]), if_neg (by simp [c_20])]) (by decide) hw Fm.refl) ⟨(Nat.le_of_ble_eq_true rfl), (Nat.le_of_ble_eq_true rfl)⟩ dX3_pipes_35
      · refine lv_iload_n F.x F.cd dX3_pipes_23 rfl (lv_at hl 3 rfl) ?_
        refine lv_iconst (v := (nI 0)) F.x F.cd dX3_pipes_24 (by decide) ?_
        refine lv_sipush (v := (nI 255)) F.x F.cd dX3_pipes_25 (by decide) ?_
        refine s_callS (As := [.int w, .int (nI 0), .int (nI 255)]) (rest := []) (n := 3) F hW (k_X3_in g l σ w (nI 0) (nI 255)) q2351 q2352 q79 q2353 (by decide +kernel) rfl ⟨⟨Nat.le_of_ble_eq_true rfl, Nat.le_of_ble_eq_true rfl⟩, ⟨(Nat.le_of_ble_eq_true rfl), (Nat.le_of_ble_eq_true rfl)⟩⟩ (Nat.le_of_ble_eq_true rfl) hl.1 rfl dX3_pipes_28 cX_no (fun r3 σ3 H locs hp3 hW => ?_)
        obtain ⟨rfl, hs3⟩ := hp3
        rw [hs3] at hW
        refine W.eq (g2 := F0 m_ 31 ls (.int (bI (btw w (nI 0) (nI 255))) :: [])) rfl ?_
        refine b_if_ne (b := (btw w (nI 0) (nI 255))) (tgt := 36) F dX3_pipes_31 (by decide) (fun c_31 => ?_) (fun c_31 => ?_)
        · have hne9 : nI i ≠ nI j := fun h => c_20 ((nI_eq (by omega) (by omega)).mp h)
          obtain ⟨k, hk1, hk2, rfl⟩ := (btw_iff (by decide) (by decide)).mp c_31
          refine lv_aload_n F.x F.cd dX3_pipes_36 rfl (lv_at hl 0 rfl) ?_
          refine s_get F hW (ci := 7) (C := RX3) (T := TX3) (N := 18) (v := .ref (A 0)) (t0) rfl in_X3 0 (by decide) q2279 (fun _ h9 => h9) rfl dX3_pipes_37 ?_
          refine lv_iconst (v := (nI 1)) F.x F.cd dX3_pipes_40 (by decide) ?_
          refine n_iald (i := 1) (n := 114) (f := (fun x9 => nI ((ar 0) x9))) (x := (nI (ar 0 1))) F hW (ta0) (by omega) (by omega) (rfl) dX3_pipes_41 ?_
          refine lv_bipush (v := (nI 12)) F.x F.cd dX3_pipes_42 (by decide) ?_
          refine n_icmp_ne (a := ar 0 1) (b := 12) (tgt := 49) F (by omega) (by omega) dX3_pipes_44 (by decide) (fun c_44 => ?_) (fun c_44 => ?_)
          · refine lv_aload_n F.x F.cd dX3_pipes_49 rfl (lv_at hl 0 rfl) ?_
            refine s_get F hW (ci := 7) (C := RX3) (T := TX3) (N := 18) (v := .ref (A 0)) (t0) rfl in_X3 0 (by decide) q2279 (fun _ h9 => h9) rfl dX3_pipes_50 ?_
            refine lv_iconst (v := (nI 1)) F.x F.cd dX3_pipes_53 (by decide) ?_
            refine lv_dup2_11 F.x F.cd dX3_pipes_54 rfl rfl ?_
            refine n_iald (i := 1) (n := 114) (f := (fun x9 => nI ((ar 0) x9))) (x := (nI (ar 0 1))) F hW (ta0) (by omega) (by omega) (rfl) dX3_pipes_55 ?_
            refine lv_dup_x2 F.x F.cd dX3_pipes_56 rfl rfl rfl ?_
            refine lv_iconst (v := (nI 1)) F.x F.cd dX3_pipes_57 (by decide) ?_
            refine a_iadd (v := (nI (ar 0 1 + 1))) F (nI_add _ _) dX3_pipes_58 ?_
            refine n_iastN (i := 1) F hW (ta0) (tbb 0 (by decide)) (by omega) (by omega) dX3_pipes_59 (fun H locs hW => ?_)
            obtain ⟨σ4, hσ4⟩ : ∃ z, z = sset σ (A 0) (eI g 0 114 (fun x9 => nI ((va_up (ar 0) 1 (ar 0 1 + 1)) x9))) := ⟨_, rfl⟩
            have hW : Hl g σ4 H locs := by rw [hσ4]; exact hW
            have w4 : σ4 (A 0) = some (eI g 0 114 (fun x9 => nI ((va_up (ar 0) 1 (ar 0 1 + 1)) x9))) := by rw [hσ4]; exact sset_eq
            have f5 : σ4 m = some (.inr (7, [.ref (A 0), .ref (A 1), .ref (A 2), .int (iv 3), .ref (A 3), .int (iv 5), .ref (A 4), .ref (A 5), .int (iv 8), .ref (A 6), .int (iv 10), .int (iv 11), .ref wd, .ref (A 7), .int (iv 14), .int (iv 15), .int (iv 16), .int (iv 17)])) := by rw [hσ4, sset_ne (sto_ne ta0 t0 (by simp))]; exact t0
            have f6 : σ4 (A 1) = some (eI g 0 114 (fun x9 => nI ((ar 1) x9))) := by rw [hσ4, sset_ne (fun q9 => absurd (tii 1 0 (by decide) (by decide) q9) (by decide))]; exact ta1
            have f7 : σ4 (A 2) = some (eI g 0 912 (fun x9 => nI ((ar 2) x9))) := by rw [hσ4, sset_ne (fun q9 => absurd (tii 2 0 (by decide) (by decide) q9) (by decide))]; exact ta2
            have f8 : σ4 (A 3) = some (eI g 0 114 (fun x9 => nI ((ar 3) x9))) := by rw [hσ4, sset_ne (fun q9 => absurd (tii 3 0 (by decide) (by decide) q9) (by decide))]; exact ta3
            have f9 : σ4 (A 4) = some (eI g 2 2048 (fun x9 => bI (rb x9))) := by rw [hσ4, sset_ne (fun q9 => absurd (tii 4 0 (by decide) (by decide) q9) (by decide))]; exact ta4
            have f10 : σ4 (A 5) = some (eI g 3 60 (fun x9 => nI ((ar 5) x9))) := by rw [hσ4, sset_ne (fun q9 => absurd (tii 5 0 (by decide) (by decide) q9) (by decide))]; exact ta5
            have f11 : σ4 (A 6) = some (eI g 3 60 (fun x9 => nI ((ar 6) x9))) := by rw [hσ4, sset_ne (fun q9 => absurd (tii 6 0 (by decide) (by decide) q9) (by decide))]; exact ta6
            have f12 : σ4 (A 7) = some (eI g 0 3 (fun x9 => nI ((ar 7) x9))) := by rw [hσ4, sset_ne (fun q9 => absurd (tii 7 0 (by decide) (by decide) q9) (by decide))]; exact ta7
            refine lv_istore (lv' := [(4, .int (nI (ar 0 1))), (0, .ref m), (1, .int (nI i)), (2, .int (nI j)), (3, .int (nI k))]) F.x F.cd dX3_pipes_60 hl (by decide) rfl (fun ls hl => ?_)
            refine lv_bipush (v := (nI 7)) F.x F.cd dX3_pipes_62 (by decide) ?_
            refine s_newa F hW 0 (N := 7) (atype := .int) (ty := .int) rfl rfl rfl q699 (7, .inl (fun _ => 0)) rfl (nI_pos (by omega)) (nI_clamp (by omega)) (by show _ * 4 ≤ _; omega) (Nat.le_of_ble_eq_true rfl) (Nat.le_of_ble_eq_true rfl) dX3_pipes_64 (fun q13_ H hb_q13_ hn_q13_ hW => ?_)
            have tw14 : IsTw g σ4 m A iv wd (va_up ar 0 (va_up (ar 0) 1 (ar 0 1 + 1))) rb := ⟨f5, tb0, w4, f6, f7, f8, f9, f10, f11, f12, tbb, tii⟩
            have fm14 : Fm σ σ4 m A := by rw [hσ4]; exact (Fm.refl).setA 0 (by decide)
            obtain ⟨σ15, hσ15⟩ : ∃ z, z = sset σ4 q13_ (eI g 0 7 (fun x9 => nI ((fun _ => 0) x9))) := ⟨_, rfl⟩
            have hW : Hl g σ15 H locs := by rw [hσ15]; exact hW
            have w15 : σ15 q13_ = some (eI g 0 7 (fun x9 => nI ((fun _ => 0) x9))) := by rw [hσ15]; exact sset_eq
            have f16 : σ15 m = some (.inr (7, [.ref (A 0), .ref (A 1), .ref (A 2), .int (iv 3), .ref (A 3), .int (iv 5), .ref (A 4), .ref (A 5), .int (iv 8), .ref (A 6), .int (iv 10), .int (iv 11), .ref wd, .ref (A 7), .int (iv 14), .int (iv 15), .int (iv 16), .int (iv 17)])) := by rw [hσ15, sset_ne (sto_ne0 hn_q13_ f5)]; exact f5
            have f17 : σ15 (A 0) = some (eI g 0 114 (fun x9 => nI ((va_up (ar 0) 1 (ar 0 1 + 1)) x9))) := by rw [hσ15, sset_ne (sto_ne0 hn_q13_ w4)]; exact w4
            have f18 : σ15 (A 1) = some (eI g 0 114 (fun x9 => nI ((ar 1) x9))) := by rw [hσ15, sset_ne (sto_ne0 hn_q13_ f6)]; exact f6
            have f19 : σ15 (A 2) = some (eI g 0 912 (fun x9 => nI ((ar 2) x9))) := by rw [hσ15, sset_ne (sto_ne0 hn_q13_ f7)]; exact f7
            have f20 : σ15 (A 3) = some (eI g 0 114 (fun x9 => nI ((ar 3) x9))) := by rw [hσ15, sset_ne (sto_ne0 hn_q13_ f8)]; exact f8
            have f21 : σ15 (A 4) = some (eI g 2 2048 (fun x9 => bI (rb x9))) := by rw [hσ15, sset_ne (sto_ne0 hn_q13_ f9)]; exact f9
            have f22 : σ15 (A 5) = some (eI g 3 60 (fun x9 => nI ((ar 5) x9))) := by rw [hσ15, sset_ne (sto_ne0 hn_q13_ f10)]; exact f10
            have f23 : σ15 (A 6) = some (eI g 3 60 (fun x9 => nI ((ar 6) x9))) := by rw [hσ15, sset_ne (sto_ne0 hn_q13_ f11)]; exact f11
            have f24 : σ15 (A 7) = some (eI g 0 3 (fun x9 => nI ((ar 7) x9))) := by rw [hσ15, sset_ne (sto_ne0 hn_q13_ f12)]; exact f12
            refine lv_dup F.x F.cd dX3_pipes_66 rfl ?_
            refine lv_iconst (v := (nI 0)) F.x F.cd dX3_pipes_67 (by decide) ?_
            refine lv_iload_n F.x F.cd dX3_pipes_68 rfl (lv_at hl 2 rfl) ?_
            refine n_iastN (i := 0) F hW (w15) (hb_q13_) (by omega) (by omega) dX3_pipes_69 (fun H locs hW => ?_)
            obtain ⟨σ25, hσ25⟩ : ∃ z, z = sset σ15 q13_ (eI g 0 7 (fun x9 => nI ((va_up (fun _ => 0) 0 i) x9))) := ⟨_, rfl⟩
            have hW : Hl g σ25 H locs := by rw [hσ25]; exact hW
            have w25 : σ25 q13_ = some (eI g 0 7 (fun x9 => nI ((va_up (fun _ => 0) 0 i) x9))) := by rw [hσ25]; exact sset_eq
            have f26 : σ25 m = some (.inr (7, [.ref (A 0), .ref (A 1), .ref (A 2), .int (iv 3), .ref (A 3), .int (iv 5), .ref (A 4), .ref (A 5), .int (iv 8), .ref (A 6), .int (iv 10), .int (iv 11), .ref wd, .ref (A 7), .int (iv 14), .int (iv 15), .int (iv 16), .int (iv 17)])) := by rw [hσ25, sset_ne (sto_ne0 hn_q13_ f5)]; exact f16
            have f27 : σ25 (A 0) = some (eI g 0 114 (fun x9 => nI ((va_up (ar 0) 1 (ar 0 1 + 1)) x9))) := by rw [hσ25, sset_ne (sto_ne0 hn_q13_ w4)]; exact f17
            have f28 : σ25 (A 1) = some (eI g 0 114 (fun x9 => nI ((ar 1) x9))) := by rw [hσ25, sset_ne (sto_ne0 hn_q13_ f6)]; exact f18
            have f29 : σ25 (A 2) = some (eI g 0 912 (fun x9 => nI ((ar 2) x9))) := by rw [hσ25, sset_ne (sto_ne0 hn_q13_ f7)]; exact f19
            have f30 : σ25 (A 3) = some (eI g 0 114 (fun x9 => nI ((ar 3) x9))) := by rw [hσ25, sset_ne (sto_ne0 hn_q13_ f8)]; exact f20
            have f31 : σ25 (A 4) = some (eI g 2 2048 (fun x9 => bI (rb x9))) := by rw [hσ25, sset_ne (sto_ne0 hn_q13_ f9)]; exact f21
            have f32 : σ25 (A 5) = some (eI g 3 60 (fun x9 => nI ((ar 5) x9))) := by rw [hσ25, sset_ne (sto_ne0 hn_q13_ f10)]; exact f22
            have f33 : σ25 (A 6) = some (eI g 3 60 (fun x9 => nI ((ar 6) x9))) := by rw [hσ25, sset_ne (sto_ne0 hn_q13_ f11)]; exact f23
            have f34 : σ25 (A 7) = some (eI g 0 3 (fun x9 => nI ((ar 7) x9))) := by rw [hσ25, sset_ne (sto_ne0 hn_q13_ f12)]; exact f24
            refine lv_dup F.x F.cd dX3_pipes_70 rfl ?_
            refine lv_iconst (v := (nI 1)) F.x F.cd dX3_pipes_71 (by decide) ?_
            refine lv_iload_n F.x F.cd dX3_pipes_72 rfl (lv_at hl 3 rfl) ?_
            refine n_iastN (i := 1) F hW (w25) (hb_q13_) (by omega) (by omega) dX3_pipes_73 (fun H locs hW => ?_)
            obtain ⟨σ35, hσ35⟩ : ∃ z, z = sset σ25 q13_ (eI g 0 7 (fun x9 => nI ((va_up (va_up (fun _ => 0) 0 i) 1 j) x9))) := ⟨_, rfl⟩
            have hW : Hl g σ35 H locs := by rw [hσ35]; exact hW
            have w35 : σ35 q13_ = some (eI g 0 7 (fun x9 => nI ((va_up (va_up (fun _ => 0) 0 i) 1 j) x9))) := by rw [hσ35]; exact sset_eq
            have f36 : σ35 m = some (.inr (7, [.ref (A 0), .ref (A 1), .ref (A 2), .int (iv 3), .ref (A 3), .int (iv 5), .ref (A 4), .ref (A 5), .int (iv 8), .ref (A 6), .int (iv 10), .int (iv 11), .ref wd, .ref (A 7), .int (iv 14), .int (iv 15), .int (iv 16), .int (iv 17)])) := by rw [hσ35, sset_ne (sto_ne0 hn_q13_ f5)]; exact f26
            have f37 : σ35 (A 0) = some (eI g 0 114 (fun x9 => nI ((va_up (ar 0) 1 (ar 0 1 + 1)) x9))) := by rw [hσ35, sset_ne (sto_ne0 hn_q13_ w4)]; exact f27
            have f38 : σ35 (A 1) = some (eI g 0 114 (fun x9 => nI ((ar 1) x9))) := by rw [hσ35, sset_ne (sto_ne0 hn_q13_ f6)]; exact f28
            have f39 : σ35 (A 2) = some (eI g 0 912 (fun x9 => nI ((ar 2) x9))) := by rw [hσ35, sset_ne (sto_ne0 hn_q13_ f7)]; exact f29
            have f40 : σ35 (A 3) = some (eI g 0 114 (fun x9 => nI ((ar 3) x9))) := by rw [hσ35, sset_ne (sto_ne0 hn_q13_ f8)]; exact f30
            have f41 : σ35 (A 4) = some (eI g 2 2048 (fun x9 => bI (rb x9))) := by rw [hσ35, sset_ne (sto_ne0 hn_q13_ f9)]; exact f31
            have f42 : σ35 (A 5) = some (eI g 3 60 (fun x9 => nI ((ar 5) x9))) := by rw [hσ35, sset_ne (sto_ne0 hn_q13_ f10)]; exact f32
            have f43 : σ35 (A 6) = some (eI g 3 60 (fun x9 => nI ((ar 6) x9))) := by rw [hσ35, sset_ne (sto_ne0 hn_q13_ f11)]; exact f33
            have f44 : σ35 (A 7) = some (eI g 0 3 (fun x9 => nI ((ar 7) x9))) := by rw [hσ35, sset_ne (sto_ne0 hn_q13_ f12)]; exact f34
            refine lv_dup F.x F.cd dX3_pipes_74 rfl ?_
            refine lv_iconst (v := (nI 2)) F.x F.cd dX3_pipes_75 (by decide) ?_
            refine lv_iload_n F.x F.cd dX3_pipes_76 rfl (lv_at hl 4 rfl) ?_
            refine n_iastN (i := 2) F hW (w35) (hb_q13_) (by omega) (by omega) dX3_pipes_77 (fun H locs hW => ?_)
            obtain ⟨σ45, hσ45⟩ : ∃ z, z = sset σ35 q13_ (eI g 0 7 (fun x9 => nI ((va_up (va_up (va_up (fun _ => 0) 0 i) 1 j) 2 k) x9))) := ⟨_, rfl⟩
            have hW : Hl g σ45 H locs := by rw [hσ45]; exact hW
            have w45 : σ45 q13_ = some (eI g 0 7 (fun x9 => nI ((va_up (va_up (va_up (fun _ => 0) 0 i) 1 j) 2 k) x9))) := by rw [hσ45]; exact sset_eq
            have f46 : σ45 m = some (.inr (7, [.ref (A 0), .ref (A 1), .ref (A 2), .int (iv 3), .ref (A 3), .int (iv 5), .ref (A 4), .ref (A 5), .int (iv 8), .ref (A 6), .int (iv 10), .int (iv 11), .ref wd, .ref (A 7), .int (iv 14), .int (iv 15), .int (iv 16), .int (iv 17)])) := by rw [hσ45, sset_ne (sto_ne0 hn_q13_ f5)]; exact f36
            have f47 : σ45 (A 0) = some (eI g 0 114 (fun x9 => nI ((va_up (ar 0) 1 (ar 0 1 + 1)) x9))) := by rw [hσ45, sset_ne (sto_ne0 hn_q13_ w4)]; exact f37
            have f48 : σ45 (A 1) = some (eI g 0 114 (fun x9 => nI ((ar 1) x9))) := by rw [hσ45, sset_ne (sto_ne0 hn_q13_ f6)]; exact f38
            have f49 : σ45 (A 2) = some (eI g 0 912 (fun x9 => nI ((ar 2) x9))) := by rw [hσ45, sset_ne (sto_ne0 hn_q13_ f7)]; exact f39
            have f50 : σ45 (A 3) = some (eI g 0 114 (fun x9 => nI ((ar 3) x9))) := by rw [hσ45, sset_ne (sto_ne0 hn_q13_ f8)]; exact f40
            have f51 : σ45 (A 4) = some (eI g 2 2048 (fun x9 => bI (rb x9))) := by rw [hσ45, sset_ne (sto_ne0 hn_q13_ f9)]; exact f41
            have f52 : σ45 (A 5) = some (eI g 3 60 (fun x9 => nI ((ar 5) x9))) := by rw [hσ45, sset_ne (sto_ne0 hn_q13_ f10)]; exact f42
            have f53 : σ45 (A 6) = some (eI g 3 60 (fun x9 => nI ((ar 6) x9))) := by rw [hσ45, sset_ne (sto_ne0 hn_q13_ f11)]; exact f43
            have f54 : σ45 (A 7) = some (eI g 0 3 (fun x9 => nI ((ar 7) x9))) := by rw [hσ45, sset_ne (sto_ne0 hn_q13_ f12)]; exact f44
            refine lv_dup F.x F.cd dX3_pipes_78 rfl ?_
            refine lv_iconst (v := (nI 3)) F.x F.cd dX3_pipes_79 (by decide) ?_
            refine lv_iconst (v := (nI 0)) F.x F.cd dX3_pipes_80 (by decide) ?_
            refine n_iastN (i := 3) F hW (w45) (hb_q13_) (by omega) (by omega) dX3_pipes_81 (fun H locs hW => ?_)
            obtain ⟨σ55, hσ55⟩ : ∃ z, z = sset σ45 q13_ (eI g 0 7 (fun x9 => nI ((va_up (va_up (va_up (va_up (fun _ => 0) 0 i) 1 j) 2 k) 3 0) x9))) := ⟨_, rfl⟩
            have hW : Hl g σ55 H locs := by rw [hσ55]; exact hW
            have w55 : σ55 q13_ = some (eI g 0 7 (fun x9 => nI ((va_up (va_up (va_up (va_up (fun _ => 0) 0 i) 1 j) 2 k) 3 0) x9))) := by rw [hσ55]; exact sset_eq
            have f56 : σ55 m = some (.inr (7, [.ref (A 0), .ref (A 1), .ref (A 2), .int (iv 3), .ref (A 3), .int (iv 5), .ref (A 4), .ref (A 5), .int (iv 8), .ref (A 6), .int (iv 10), .int (iv 11), .ref wd, .ref (A 7), .int (iv 14), .int (iv 15), .int (iv 16), .int (iv 17)])) := by rw [hσ55, sset_ne (sto_ne0 hn_q13_ f5)]; exact f46
            have f57 : σ55 (A 0) = some (eI g 0 114 (fun x9 => nI ((va_up (ar 0) 1 (ar 0 1 + 1)) x9))) := by rw [hσ55, sset_ne (sto_ne0 hn_q13_ w4)]; exact f47
            have f58 : σ55 (A 1) = some (eI g 0 114 (fun x9 => nI ((ar 1) x9))) := by rw [hσ55, sset_ne (sto_ne0 hn_q13_ f6)]; exact f48
            have f59 : σ55 (A 2) = some (eI g 0 912 (fun x9 => nI ((ar 2) x9))) := by rw [hσ55, sset_ne (sto_ne0 hn_q13_ f7)]; exact f49
            have f60 : σ55 (A 3) = some (eI g 0 114 (fun x9 => nI ((ar 3) x9))) := by rw [hσ55, sset_ne (sto_ne0 hn_q13_ f8)]; exact f50
            have f61 : σ55 (A 4) = some (eI g 2 2048 (fun x9 => bI (rb x9))) := by rw [hσ55, sset_ne (sto_ne0 hn_q13_ f9)]; exact f51
            have f62 : σ55 (A 5) = some (eI g 3 60 (fun x9 => nI ((ar 5) x9))) := by rw [hσ55, sset_ne (sto_ne0 hn_q13_ f10)]; exact f52
            have f63 : σ55 (A 6) = some (eI g 3 60 (fun x9 => nI ((ar 6) x9))) := by rw [hσ55, sset_ne (sto_ne0 hn_q13_ f11)]; exact f53
            have f64 : σ55 (A 7) = some (eI g 0 3 (fun x9 => nI ((ar 7) x9))) := by rw [hσ55, sset_ne (sto_ne0 hn_q13_ f12)]; exact f54
            refine lv_dup F.x F.cd dX3_pipes_82 rfl ?_
            refine lv_iconst (v := (nI 4)) F.x F.cd dX3_pipes_83 (by decide) ?_
            refine lv_iconst (v := (nI 0)) F.x F.cd dX3_pipes_84 (by decide) ?_
            refine n_iastN (i := 4) F hW (w55) (hb_q13_) (by omega) (by omega) dX3_pipes_85 (fun H locs hW => ?_)
            obtain ⟨σ65, hσ65⟩ : ∃ z, z = sset σ55 q13_ (eI g 0 7 (fun x9 => nI ((va_up (va_up (va_up (va_up (va_up (fun _ => 0) 0 i) 1 j) 2 k) 3 0) 4 0) x9))) := ⟨_, rfl⟩
            have hW : Hl g σ65 H locs := by rw [hσ65]; exact hW
            have w65 : σ65 q13_ = some (eI g 0 7 (fun x9 => nI ((va_up (va_up (va_up (va_up (va_up (fun _ => 0) 0 i) 1 j) 2 k) 3 0) 4 0) x9))) := by rw [hσ65]; exact sset_eq
            have f66 : σ65 m = some (.inr (7, [.ref (A 0), .ref (A 1), .ref (A 2), .int (iv 3), .ref (A 3), .int (iv 5), .ref (A 4), .ref (A 5), .int (iv 8), .ref (A 6), .int (iv 10), .int (iv 11), .ref wd, .ref (A 7), .int (iv 14), .int (iv 15), .int (iv 16), .int (iv 17)])) := by rw [hσ65, sset_ne (sto_ne0 hn_q13_ f5)]; exact f56
            have f67 : σ65 (A 0) = some (eI g 0 114 (fun x9 => nI ((va_up (ar 0) 1 (ar 0 1 + 1)) x9))) := by rw [hσ65, sset_ne (sto_ne0 hn_q13_ w4)]; exact f57
            have f68 : σ65 (A 1) = some (eI g 0 114 (fun x9 => nI ((ar 1) x9))) := by rw [hσ65, sset_ne (sto_ne0 hn_q13_ f6)]; exact f58
            have f69 : σ65 (A 2) = some (eI g 0 912 (fun x9 => nI ((ar 2) x9))) := by rw [hσ65, sset_ne (sto_ne0 hn_q13_ f7)]; exact f59
            have f70 : σ65 (A 3) = some (eI g 0 114 (fun x9 => nI ((ar 3) x9))) := by rw [hσ65, sset_ne (sto_ne0 hn_q13_ f8)]; exact f60
            have f71 : σ65 (A 4) = some (eI g 2 2048 (fun x9 => bI (rb x9))) := by rw [hσ65, sset_ne (sto_ne0 hn_q13_ f9)]; exact f61
            have f72 : σ65 (A 5) = some (eI g 3 60 (fun x9 => nI ((ar 5) x9))) := by rw [hσ65, sset_ne (sto_ne0 hn_q13_ f10)]; exact f62
            have f73 : σ65 (A 6) = some (eI g 3 60 (fun x9 => nI ((ar 6) x9))) := by rw [hσ65, sset_ne (sto_ne0 hn_q13_ f11)]; exact f63
            have f74 : σ65 (A 7) = some (eI g 0 3 (fun x9 => nI ((ar 7) x9))) := by rw [hσ65, sset_ne (sto_ne0 hn_q13_ f12)]; exact f64
            refine lv_dup F.x F.cd dX3_pipes_86 rfl ?_
            refine lv_iconst (v := (nI 5)) F.x F.cd dX3_pipes_87 (by decide) ?_
            refine lv_iconst (v := (nI 0)) F.x F.cd dX3_pipes_88 (by decide) ?_
            refine n_iastN (i := 5) F hW (w65) (hb_q13_) (by omega) (by omega) dX3_pipes_89 (fun H locs hW => ?_)
            obtain ⟨σ75, hσ75⟩ : ∃ z, z = sset σ65 q13_ (eI g 0 7 (fun x9 => nI ((va_up (va_up (va_up (va_up (va_up (va_up (fun _ => 0) 0 i) 1 j) 2 k) 3 0) 4 0) 5 0) x9))) := ⟨_, rfl⟩
            have hW : Hl g σ75 H locs := by rw [hσ75]; exact hW
            have w75 : σ75 q13_ = some (eI g 0 7 (fun x9 => nI ((va_up (va_up (va_up (va_up (va_up (va_up (fun _ => 0) 0 i) 1 j) 2 k) 3 0) 4 0) 5 0) x9))) := by rw [hσ75]; exact sset_eq
            have f76 : σ75 m = some (.inr (7, [.ref (A 0), .ref (A 1), .ref (A 2), .int (iv 3), .ref (A 3), .int (iv 5), .ref (A 4), .ref (A 5), .int (iv 8), .ref (A 6), .int (iv 10), .int (iv 11), .ref wd, .ref (A 7), .int (iv 14), .int (iv 15), .int (iv 16), .int (iv 17)])) := by rw [hσ75, sset_ne (sto_ne0 hn_q13_ f5)]; exact f66
            have f77 : σ75 (A 0) = some (eI g 0 114 (fun x9 => nI ((va_up (ar 0) 1 (ar 0 1 + 1)) x9))) := by rw [hσ75, sset_ne (sto_ne0 hn_q13_ w4)]; exact f67
            have f78 : σ75 (A 1) = some (eI g 0 114 (fun x9 => nI ((ar 1) x9))) := by rw [hσ75, sset_ne (sto_ne0 hn_q13_ f6)]; exact f68
            have f79 : σ75 (A 2) = some (eI g 0 912 (fun x9 => nI ((ar 2) x9))) := by rw [hσ75, sset_ne (sto_ne0 hn_q13_ f7)]; exact f69
            have f80 : σ75 (A 3) = some (eI g 0 114 (fun x9 => nI ((ar 3) x9))) := by rw [hσ75, sset_ne (sto_ne0 hn_q13_ f8)]; exact f70
            have f81 : σ75 (A 4) = some (eI g 2 2048 (fun x9 => bI (rb x9))) := by rw [hσ75, sset_ne (sto_ne0 hn_q13_ f9)]; exact f71
            have f82 : σ75 (A 5) = some (eI g 3 60 (fun x9 => nI ((ar 5) x9))) := by rw [hσ75, sset_ne (sto_ne0 hn_q13_ f10)]; exact f72
            have f83 : σ75 (A 6) = some (eI g 3 60 (fun x9 => nI ((ar 6) x9))) := by rw [hσ75, sset_ne (sto_ne0 hn_q13_ f11)]; exact f73
            have f84 : σ75 (A 7) = some (eI g 0 3 (fun x9 => nI ((ar 7) x9))) := by rw [hσ75, sset_ne (sto_ne0 hn_q13_ f12)]; exact f74
            refine lv_dup F.x F.cd dX3_pipes_90 rfl ?_
            refine lv_bipush (v := (nI 6)) F.x F.cd dX3_pipes_91 (by decide) ?_
            refine lv_iconst (v := (nI 0)) F.x F.cd dX3_pipes_93 (by decide) ?_
            refine n_iastN (i := 6) F hW (w75) (hb_q13_) (by omega) (by omega) dX3_pipes_94 (fun H locs hW => ?_)
            obtain ⟨σ85, hσ85⟩ : ∃ z, z = sset σ75 q13_ (eI g 0 7 (fun x9 => nI ((va_up (va_up (va_up (va_up (va_up (va_up (va_up (fun _ => 0) 0 i) 1 j) 2 k) 3 0) 4 0) 5 0) 6 0) x9))) := ⟨_, rfl⟩
            have hW : Hl g σ85 H locs := by rw [hσ85]; exact hW
            have w85 : σ85 q13_ = some (eI g 0 7 (fun x9 => nI ((va_up (va_up (va_up (va_up (va_up (va_up (va_up (fun _ => 0) 0 i) 1 j) 2 k) 3 0) 4 0) 5 0) 6 0) x9))) := by rw [hσ85]; exact sset_eq
            have f86 : σ85 m = some (.inr (7, [.ref (A 0), .ref (A 1), .ref (A 2), .int (iv 3), .ref (A 3), .int (iv 5), .ref (A 4), .ref (A 5), .int (iv 8), .ref (A 6), .int (iv 10), .int (iv 11), .ref wd, .ref (A 7), .int (iv 14), .int (iv 15), .int (iv 16), .int (iv 17)])) := by rw [hσ85, sset_ne (sto_ne0 hn_q13_ f5)]; exact f76
            have f87 : σ85 (A 0) = some (eI g 0 114 (fun x9 => nI ((va_up (ar 0) 1 (ar 0 1 + 1)) x9))) := by rw [hσ85, sset_ne (sto_ne0 hn_q13_ w4)]; exact f77
            have f88 : σ85 (A 1) = some (eI g 0 114 (fun x9 => nI ((ar 1) x9))) := by rw [hσ85, sset_ne (sto_ne0 hn_q13_ f6)]; exact f78
            have f89 : σ85 (A 2) = some (eI g 0 912 (fun x9 => nI ((ar 2) x9))) := by rw [hσ85, sset_ne (sto_ne0 hn_q13_ f7)]; exact f79
            have f90 : σ85 (A 3) = some (eI g 0 114 (fun x9 => nI ((ar 3) x9))) := by rw [hσ85, sset_ne (sto_ne0 hn_q13_ f8)]; exact f80
            have f91 : σ85 (A 4) = some (eI g 2 2048 (fun x9 => bI (rb x9))) := by rw [hσ85, sset_ne (sto_ne0 hn_q13_ f9)]; exact f81
            have f92 : σ85 (A 5) = some (eI g 3 60 (fun x9 => nI ((ar 5) x9))) := by rw [hσ85, sset_ne (sto_ne0 hn_q13_ f10)]; exact f82
            have f93 : σ85 (A 6) = some (eI g 3 60 (fun x9 => nI ((ar 6) x9))) := by rw [hσ85, sset_ne (sto_ne0 hn_q13_ f11)]; exact f83
            have f94 : σ85 (A 7) = some (eI g 0 3 (fun x9 => nI ((ar 7) x9))) := by rw [hσ85, sset_ne (sto_ne0 hn_q13_ f12)]; exact f84
            refine lv_astore (lv' := [(5, .ref q13_), (4, .int (nI (ar 0 1))), (0, .ref m), (1, .int (nI i)), (2, .int (nI j)), (3, .int (nI k))]) F.x F.cd dX3_pipes_95 hl (by decide) rfl (fun ls hl => ?_)
            refine lv_iconst (v := (nI 0)) F.x F.cd dX3_pipes_97 (by decide) ?_
            refine lv_istore (lv' := [(6, .int (nI 0)), (5, .ref q13_), (4, .int (nI (ar 0 1))), (0, .ref m), (1, .int (nI i)), (2, .int (nI j)), (3, .int (nI k))]) F.x F.cd dX3_pipes_98 hl (by decide) rfl (fun ls hl => ?_)
            refine lv_iload F.x F.cd dX3_pipes_100 (lv_at hl 0 rfl) ?_
            refine lv_bipush (v := (nI 7)) F.x F.cd dX3_pipes_102 (by decide) ?_
            refine n_icmp_ge (a := 0) (b := 7) (tgt := 134) F (by omega) (by omega) dX3_pipes_104 (by decide) (fun c_104 => absurd c_104 (by decide)) (fun c_104 => ?_)
            refine lv_aload_n F.x F.cd dX3_pipes_107 rfl (lv_at hl 3 rfl) ?_
            refine s_get F hW (ci := 7) (C := RX3) (T := TX3) (N := 18) (v := .ref (A 0)) (f86) rfl in_X3 0 (by decide) q2279 (fun _ h9 => h9) rfl dX3_pipes_108 ?_
            refine lv_bipush (v := (nI 30)) F.x F.cd dX3_pipes_111 (by decide) ?_
            refine lv_bipush (v := (nI 7)) F.x F.cd dX3_pipes_113 (by decide) ?_
            refine lv_iload F.x F.cd dX3_pipes_115 (lv_at hl 2 rfl) ?_
            refine a_imul (v := (nI (7 * (ar 0 1)))) F (pk_mul _ _) dX3_pipes_117 ?_
            refine a_iadd (v := (nI (30 + (7 * (ar 0 1))))) F (nI_add _ _) dX3_pipes_118 ?_
            refine lv_iload F.x F.cd dX3_pipes_119 (lv_at hl 0 rfl) ?_
            refine a_iadd (v := (nI (30 + (7 * (ar 0 1))))) F (nI_add _ _) dX3_pipes_121 ?_
            refine lv_aload F.x F.cd dX3_pipes_122 (lv_at hl 1 rfl) ?_
            refine lv_iload F.x F.cd dX3_pipes_124 (lv_at hl 0 rfl) ?_
            refine n_iald (i := 0) (n := 7) (f := (fun x9 => nI ((va_up (va_up (va_up (va_up (va_up (va_up (va_up (fun _ => 0) 0 i) 1 j) 2 k) 3 0) 4 0) 5 0) 6 0) x9))) (x := (nI i)) F hW (w85) (by omega) (by omega) (rfl) dX3_pipes_126 ?_
            refine n_iastN (i := 30 + (7 * (ar 0 1))) F hW (f87) (tbb 0 (by decide)) (by omega) (by omega) dX3_pipes_127 (fun H locs hW => ?_)
            obtain ⟨σ95, hσ95⟩ : ∃ z, z = sset σ85 (A 0) (eI g 0 114 (fun x9 => nI ((va_up (va_up (ar 0) 1 (ar 0 1 + 1)) (30 + (7 * (ar 0 1))) i) x9))) := ⟨_, rfl⟩
            have hW : Hl g σ95 H locs := by rw [hσ95]; exact hW
            have w95 : σ95 (A 0) = some (eI g 0 114 (fun x9 => nI ((va_up (va_up (ar 0) 1 (ar 0 1 + 1)) (30 + (7 * (ar 0 1))) i) x9))) := by rw [hσ95]; exact sset_eq
            have f96 : σ95 m = some (.inr (7, [.ref (A 0), .ref (A 1), .ref (A 2), .int (iv 3), .ref (A 3), .int (iv 5), .ref (A 4), .ref (A 5), .int (iv 8), .ref (A 6), .int (iv 10), .int (iv 11), .ref wd, .ref (A 7), .int (iv 14), .int (iv 15), .int (iv 16), .int (iv 17)])) := by rw [hσ95, sset_ne (sto_ne f87 f86 (by simp))]; exact f86
            have f97 : σ95 (A 1) = some (eI g 0 114 (fun x9 => nI ((ar 1) x9))) := by rw [hσ95, sset_ne (fun q9 => absurd (tii 1 0 (by decide) (by decide) q9) (by decide))]; exact f88
            have f98 : σ95 (A 2) = some (eI g 0 912 (fun x9 => nI ((ar 2) x9))) := by rw [hσ95, sset_ne (fun q9 => absurd (tii 2 0 (by decide) (by decide) q9) (by decide))]; exact f89
            have f99 : σ95 (A 3) = some (eI g 0 114 (fun x9 => nI ((ar 3) x9))) := by rw [hσ95, sset_ne (fun q9 => absurd (tii 3 0 (by decide) (by decide) q9) (by decide))]; exact f90
            have f100 : σ95 (A 4) = some (eI g 2 2048 (fun x9 => bI (rb x9))) := by rw [hσ95, sset_ne (fun q9 => absurd (tii 4 0 (by decide) (by decide) q9) (by decide))]; exact f91
            have f101 : σ95 (A 5) = some (eI g 3 60 (fun x9 => nI ((ar 5) x9))) := by rw [hσ95, sset_ne (fun q9 => absurd (tii 5 0 (by decide) (by decide) q9) (by decide))]; exact f92
            have f102 : σ95 (A 6) = some (eI g 3 60 (fun x9 => nI ((ar 6) x9))) := by rw [hσ95, sset_ne (fun q9 => absurd (tii 6 0 (by decide) (by decide) q9) (by decide))]; exact f93
            have f103 : σ95 (A 7) = some (eI g 0 3 (fun x9 => nI ((ar 7) x9))) := by rw [hσ95, sset_ne (fun q9 => absurd (tii 7 0 (by decide) (by decide) q9) (by decide))]; exact f94
            have f104 : σ95 q13_ = some (eI g 0 7 (fun x9 => nI ((va_up (va_up (va_up (va_up (va_up (va_up (va_up (fun _ => 0) 0 i) 1 j) 2 k) 3 0) 4 0) 5 0) 6 0) x9))) := by rw [hσ95, sset_ne (Ne.symm (sto_ne0 hn_q13_ w4))]; exact w85
            refine lv_iinc (k := 0) (v := (nI 1)) (lv' := [(6, .int (nI 1)), (5, .ref q13_), (4, .int (nI (ar 0 1))), (0, .ref m), (1, .int (nI i)), (2, .int (nI j)), (3, .int (nI k))]) F.x F.cd dX3_pipes_128 hl rfl (by decide) (by decide) rfl (fun ls hl => ?_)
            refine lv_goto (tgt := 100) F.x F.cd dX3_pipes_131 (by decide) ?_
            refine lv_iload F.x F.cd dX3_pipes_100 (lv_at hl 0 rfl) ?_
            refine lv_bipush (v := (nI 7)) F.x F.cd dX3_pipes_102 (by decide) ?_
            refine n_icmp_ge (a := 1) (b := 7) (tgt := 134) F (by omega) (by omega) dX3_pipes_104 (by decide) (fun c_104 => absurd c_104 (by decide)) (fun c_104 => ?_)
            refine lv_aload_n F.x F.cd dX3_pipes_107 rfl (lv_at hl 3 rfl) ?_
            refine s_get F hW (ci := 7) (C := RX3) (T := TX3) (N := 18) (v := .ref (A 0)) (f96) rfl in_X3 0 (by decide) q2279 (fun _ h9 => h9) rfl dX3_pipes_108 ?_
            refine lv_bipush (v := (nI 30)) F.x F.cd dX3_pipes_111 (by decide) ?_
            refine lv_bipush (v := (nI 7)) F.x F.cd dX3_pipes_113 (by decide) ?_
            refine lv_iload F.x F.cd dX3_pipes_115 (lv_at hl 2 rfl) ?_
            refine a_imul (v := (nI (7 * (ar 0 1)))) F (pk_mul _ _) dX3_pipes_117 ?_
            refine a_iadd (v := (nI (30 + (7 * (ar 0 1))))) F (nI_add _ _) dX3_pipes_118 ?_
            refine lv_iload F.x F.cd dX3_pipes_119 (lv_at hl 0 rfl) ?_
            refine a_iadd (v := (nI (30 + (7 * (ar 0 1)) + 1))) F (nI_add _ _) dX3_pipes_121 ?_
            refine lv_aload F.x F.cd dX3_pipes_122 (lv_at hl 1 rfl) ?_
            refine lv_iload F.x F.cd dX3_pipes_124 (lv_at hl 0 rfl) ?_
            refine n_iald (i := 1) (n := 7) (f := (fun x9 => nI ((va_up (va_up (va_up (va_up (va_up (va_up (va_up (fun _ => 0) 0 i) 1 j) 2 k) 3 0) 4 0) 5 0) 6 0) x9))) (x := (nI j)) F hW (f104) (by omega) (by omega) (rfl) dX3_pipes_126 ?_
            refine n_iastN (i := 30 + (7 * (ar 0 1)) + 1) F hW (w95) (tbb 0 (by decide)) (by omega) (by omega) dX3_pipes_127 (fun H locs hW => ?_)
            obtain ⟨σ105, hσ105⟩ : ∃ z, z = sset σ95 (A 0) (eI g 0 114 (fun x9 => nI ((va_up (va_up (va_up (ar 0) 1 (ar 0 1 + 1)) (30 + (7 * (ar 0 1))) i) (30 + (7 * (ar 0 1)) + 1) j) x9))) := ⟨_, rfl⟩
            have hW : Hl g σ105 H locs := by rw [hσ105]; exact hW
            have w105 : σ105 (A 0) = some (eI g 0 114 (fun x9 => nI ((va_up (va_up (va_up (ar 0) 1 (ar 0 1 + 1)) (30 + (7 * (ar 0 1))) i) (30 + (7 * (ar 0 1)) + 1) j) x9))) := by rw [hσ105]; exact sset_eq
            have f106 : σ105 m = some (.inr (7, [.ref (A 0), .ref (A 1), .ref (A 2), .int (iv 3), .ref (A 3), .int (iv 5), .ref (A 4), .ref (A 5), .int (iv 8), .ref (A 6), .int (iv 10), .int (iv 11), .ref wd, .ref (A 7), .int (iv 14), .int (iv 15), .int (iv 16), .int (iv 17)])) := by rw [hσ105, sset_ne (sto_ne w95 f96 (by simp))]; exact f96
            have f107 : σ105 (A 1) = some (eI g 0 114 (fun x9 => nI ((ar 1) x9))) := by rw [hσ105, sset_ne (fun q9 => absurd (tii 1 0 (by decide) (by decide) q9) (by decide))]; exact f97
            have f108 : σ105 (A 2) = some (eI g 0 912 (fun x9 => nI ((ar 2) x9))) := by rw [hσ105, sset_ne (fun q9 => absurd (tii 2 0 (by decide) (by decide) q9) (by decide))]; exact f98
            have f109 : σ105 (A 3) = some (eI g 0 114 (fun x9 => nI ((ar 3) x9))) := by rw [hσ105, sset_ne (fun q9 => absurd (tii 3 0 (by decide) (by decide) q9) (by decide))]; exact f99
            have f110 : σ105 (A 4) = some (eI g 2 2048 (fun x9 => bI (rb x9))) := by rw [hσ105, sset_ne (fun q9 => absurd (tii 4 0 (by decide) (by decide) q9) (by decide))]; exact f100
            have f111 : σ105 (A 5) = some (eI g 3 60 (fun x9 => nI ((ar 5) x9))) := by rw [hσ105, sset_ne (fun q9 => absurd (tii 5 0 (by decide) (by decide) q9) (by decide))]; exact f101
            have f112 : σ105 (A 6) = some (eI g 3 60 (fun x9 => nI ((ar 6) x9))) := by rw [hσ105, sset_ne (fun q9 => absurd (tii 6 0 (by decide) (by decide) q9) (by decide))]; exact f102
            have f113 : σ105 (A 7) = some (eI g 0 3 (fun x9 => nI ((ar 7) x9))) := by rw [hσ105, sset_ne (fun q9 => absurd (tii 7 0 (by decide) (by decide) q9) (by decide))]; exact f103
            have f114 : σ105 q13_ = some (eI g 0 7 (fun x9 => nI ((va_up (va_up (va_up (va_up (va_up (va_up (va_up (fun _ => 0) 0 i) 1 j) 2 k) 3 0) 4 0) 5 0) 6 0) x9))) := by rw [hσ105, sset_ne (Ne.symm (sto_ne0 hn_q13_ w4))]; exact f104
            refine lv_iinc (k := 0) (v := (nI 2)) (lv' := [(6, .int (nI 2)), (5, .ref q13_), (4, .int (nI (ar 0 1))), (0, .ref m), (1, .int (nI i)), (2, .int (nI j)), (3, .int (nI k))]) F.x F.cd dX3_pipes_128 hl rfl (by decide) (by decide) rfl (fun ls hl => ?_)
            refine lv_goto (tgt := 100) F.x F.cd dX3_pipes_131 (by decide) ?_
            refine lv_iload F.x F.cd dX3_pipes_100 (lv_at hl 0 rfl) ?_
            refine lv_bipush (v := (nI 7)) F.x F.cd dX3_pipes_102 (by decide) ?_
            refine n_icmp_ge (a := 2) (b := 7) (tgt := 134) F (by omega) (by omega) dX3_pipes_104 (by decide) (fun c_104 => absurd c_104 (by decide)) (fun c_104 => ?_)
            refine lv_aload_n F.x F.cd dX3_pipes_107 rfl (lv_at hl 3 rfl) ?_
            refine s_get F hW (ci := 7) (C := RX3) (T := TX3) (N := 18) (v := .ref (A 0)) (f106) rfl in_X3 0 (by decide) q2279 (fun _ h9 => h9) rfl dX3_pipes_108 ?_
            refine lv_bipush (v := (nI 30)) F.x F.cd dX3_pipes_111 (by decide) ?_
            refine lv_bipush (v := (nI 7)) F.x F.cd dX3_pipes_113 (by decide) ?_
            refine lv_iload F.x F.cd dX3_pipes_115 (lv_at hl 2 rfl) ?_
            refine a_imul (v := (nI (7 * (ar 0 1)))) F (pk_mul _ _) dX3_pipes_117 ?_
            refine a_iadd (v := (nI (30 + (7 * (ar 0 1))))) F (nI_add _ _) dX3_pipes_118 ?_
            refine lv_iload F.x F.cd dX3_pipes_119 (lv_at hl 0 rfl) ?_
            refine a_iadd (v := (nI (30 + (7 * (ar 0 1)) + 2))) F (nI_add _ _) dX3_pipes_121 ?_
            refine lv_aload F.x F.cd dX3_pipes_122 (lv_at hl 1 rfl) ?_
            refine lv_iload F.x F.cd dX3_pipes_124 (lv_at hl 0 rfl) ?_
            refine n_iald (i := 2) (n := 7) (f := (fun x9 => nI ((va_up (va_up (va_up (va_up (va_up (va_up (va_up (fun _ => 0) 0 i) 1 j) 2 k) 3 0) 4 0) 5 0) 6 0) x9))) (x := (nI k)) F hW (f114) (by omega) (by omega) (rfl) dX3_pipes_126 ?_
            refine n_iastN (i := 30 + (7 * (ar 0 1)) + 2) F hW (w105) (tbb 0 (by decide)) (by omega) (by omega) dX3_pipes_127 (fun H locs hW => ?_)
            obtain ⟨σ115, hσ115⟩ : ∃ z, z = sset σ105 (A 0) (eI g 0 114 (fun x9 => nI ((va_up (va_up (va_up (va_up (ar 0) 1 (ar 0 1 + 1)) (30 + (7 * (ar 0 1))) i) (30 + (7 * (ar 0 1)) + 1) j) (30 + (7 * (ar 0 1)) + 2) k) x9))) := ⟨_, rfl⟩
            have hW : Hl g σ115 H locs := by rw [hσ115]; exact hW
            have w115 : σ115 (A 0) = some (eI g 0 114 (fun x9 => nI ((va_up (va_up (va_up (va_up (ar 0) 1 (ar 0 1 + 1)) (30 + (7 * (ar 0 1))) i) (30 + (7 * (ar 0 1)) + 1) j) (30 + (7 * (ar 0 1)) + 2) k) x9))) := by rw [hσ115]; exact sset_eq
            have f116 : σ115 m = some (.inr (7, [.ref (A 0), .ref (A 1), .ref (A 2), .int (iv 3), .ref (A 3), .int (iv 5), .ref (A 4), .ref (A 5), .int (iv 8), .ref (A 6), .int (iv 10), .int (iv 11), .ref wd, .ref (A 7), .int (iv 14), .int (iv 15), .int (iv 16), .int (iv 17)])) := by rw [hσ115, sset_ne (sto_ne w105 f106 (by simp))]; exact f106
            have f117 : σ115 (A 1) = some (eI g 0 114 (fun x9 => nI ((ar 1) x9))) := by rw [hσ115, sset_ne (fun q9 => absurd (tii 1 0 (by decide) (by decide) q9) (by decide))]; exact f107
            have f118 : σ115 (A 2) = some (eI g 0 912 (fun x9 => nI ((ar 2) x9))) := by rw [hσ115, sset_ne (fun q9 => absurd (tii 2 0 (by decide) (by decide) q9) (by decide))]; exact f108
            have f119 : σ115 (A 3) = some (eI g 0 114 (fun x9 => nI ((ar 3) x9))) := by rw [hσ115, sset_ne (fun q9 => absurd (tii 3 0 (by decide) (by decide) q9) (by decide))]; exact f109
            have f120 : σ115 (A 4) = some (eI g 2 2048 (fun x9 => bI (rb x9))) := by rw [hσ115, sset_ne (fun q9 => absurd (tii 4 0 (by decide) (by decide) q9) (by decide))]; exact f110
            have f121 : σ115 (A 5) = some (eI g 3 60 (fun x9 => nI ((ar 5) x9))) := by rw [hσ115, sset_ne (fun q9 => absurd (tii 5 0 (by decide) (by decide) q9) (by decide))]; exact f111
            have f122 : σ115 (A 6) = some (eI g 3 60 (fun x9 => nI ((ar 6) x9))) := by rw [hσ115, sset_ne (fun q9 => absurd (tii 6 0 (by decide) (by decide) q9) (by decide))]; exact f112
            have f123 : σ115 (A 7) = some (eI g 0 3 (fun x9 => nI ((ar 7) x9))) := by rw [hσ115, sset_ne (fun q9 => absurd (tii 7 0 (by decide) (by decide) q9) (by decide))]; exact f113
            have f124 : σ115 q13_ = some (eI g 0 7 (fun x9 => nI ((va_up (va_up (va_up (va_up (va_up (va_up (va_up (fun _ => 0) 0 i) 1 j) 2 k) 3 0) 4 0) 5 0) 6 0) x9))) := by rw [hσ115, sset_ne (Ne.symm (sto_ne0 hn_q13_ w4))]; exact f114
            refine lv_iinc (k := 0) (v := (nI 3)) (lv' := [(6, .int (nI 3)), (5, .ref q13_), (4, .int (nI (ar 0 1))), (0, .ref m), (1, .int (nI i)), (2, .int (nI j)), (3, .int (nI k))]) F.x F.cd dX3_pipes_128 hl rfl (by decide) (by decide) rfl (fun ls hl => ?_)
            refine lv_goto (tgt := 100) F.x F.cd dX3_pipes_131 (by decide) ?_
            refine lv_iload F.x F.cd dX3_pipes_100 (lv_at hl 0 rfl) ?_
            refine lv_bipush (v := (nI 7)) F.x F.cd dX3_pipes_102 (by decide) ?_
            refine n_icmp_ge (a := 3) (b := 7) (tgt := 134) F (by omega) (by omega) dX3_pipes_104 (by decide) (fun c_104 => absurd c_104 (by decide)) (fun c_104 => ?_)
            refine lv_aload_n F.x F.cd dX3_pipes_107 rfl (lv_at hl 3 rfl) ?_
            refine s_get F hW (ci := 7) (C := RX3) (T := TX3) (N := 18) (v := .ref (A 0)) (f116) rfl in_X3 0 (by decide) q2279 (fun _ h9 => h9) rfl dX3_pipes_108 ?_
            refine lv_bipush (v := (nI 30)) F.x F.cd dX3_pipes_111 (by decide) ?_
            refine lv_bipush (v := (nI 7)) F.x F.cd dX3_pipes_113 (by decide) ?_
            refine lv_iload F.x F.cd dX3_pipes_115 (lv_at hl 2 rfl) ?_
            refine a_imul (v := (nI (7 * (ar 0 1)))) F (pk_mul _ _) dX3_pipes_117 ?_
            refine a_iadd (v := (nI (30 + (7 * (ar 0 1))))) F (nI_add _ _) dX3_pipes_118 ?_
            refine lv_iload F.x F.cd dX3_pipes_119 (lv_at hl 0 rfl) ?_
            refine a_iadd (v := (nI (30 + (7 * (ar 0 1)) + 3))) F (nI_add _ _) dX3_pipes_121 ?_
            refine lv_aload F.x F.cd dX3_pipes_122 (lv_at hl 1 rfl) ?_
            refine lv_iload F.x F.cd dX3_pipes_124 (lv_at hl 0 rfl) ?_
            refine n_iald (i := 3) (n := 7) (f := (fun x9 => nI ((va_up (va_up (va_up (va_up (va_up (va_up (va_up (fun _ => 0) 0 i) 1 j) 2 k) 3 0) 4 0) 5 0) 6 0) x9))) (x := (nI 0)) F hW (f124) (by omega) (by omega) (rfl) dX3_pipes_126 ?_
            refine n_iastN (i := 30 + (7 * (ar 0 1)) + 3) F hW (w115) (tbb 0 (by decide)) (by omega) (by omega) dX3_pipes_127 (fun H locs hW => ?_)
            obtain ⟨σ125, hσ125⟩ : ∃ z, z = sset σ115 (A 0) (eI g 0 114 (fun x9 => nI ((va_up (va_up (va_up (va_up (va_up (ar 0) 1 (ar 0 1 + 1)) (30 + (7 * (ar 0 1))) i) (30 + (7 * (ar 0 1)) + 1) j) (30 + (7 * (ar 0 1)) + 2) k) (30 + (7 * (ar 0 1)) + 3) 0) x9))) := ⟨_, rfl⟩
            have hW : Hl g σ125 H locs := by rw [hσ125]; exact hW
            have w125 : σ125 (A 0) = some (eI g 0 114 (fun x9 => nI ((va_up (va_up (va_up (va_up (va_up (ar 0) 1 (ar 0 1 + 1)) (30 + (7 * (ar 0 1))) i) (30 + (7 * (ar 0 1)) + 1) j) (30 + (7 * (ar 0 1)) + 2) k) (30 + (7 * (ar 0 1)) + 3) 0) x9))) := by rw [hσ125]; exact sset_eq
            have f126 : σ125 m = some (.inr (7, [.ref (A 0), .ref (A 1), .ref (A 2), .int (iv 3), .ref (A 3), .int (iv 5), .ref (A 4), .ref (A 5), .int (iv 8), .ref (A 6), .int (iv 10), .int (iv 11), .ref wd, .ref (A 7), .int (iv 14), .int (iv 15), .int (iv 16), .int (iv 17)])) := by rw [hσ125, sset_ne (sto_ne w115 f116 (by simp))]; exact f116
            have f127 : σ125 (A 1) = some (eI g 0 114 (fun x9 => nI ((ar 1) x9))) := by rw [hσ125, sset_ne (fun q9 => absurd (tii 1 0 (by decide) (by decide) q9) (by decide))]; exact f117
            have f128 : σ125 (A 2) = some (eI g 0 912 (fun x9 => nI ((ar 2) x9))) := by rw [hσ125, sset_ne (fun q9 => absurd (tii 2 0 (by decide) (by decide) q9) (by decide))]; exact f118
            have f129 : σ125 (A 3) = some (eI g 0 114 (fun x9 => nI ((ar 3) x9))) := by rw [hσ125, sset_ne (fun q9 => absurd (tii 3 0 (by decide) (by decide) q9) (by decide))]; exact f119
            have f130 : σ125 (A 4) = some (eI g 2 2048 (fun x9 => bI (rb x9))) := by rw [hσ125, sset_ne (fun q9 => absurd (tii 4 0 (by decide) (by decide) q9) (by decide))]; exact f120
            have f131 : σ125 (A 5) = some (eI g 3 60 (fun x9 => nI ((ar 5) x9))) := by rw [hσ125, sset_ne (fun q9 => absurd (tii 5 0 (by decide) (by decide) q9) (by decide))]; exact f121
            have f132 : σ125 (A 6) = some (eI g 3 60 (fun x9 => nI ((ar 6) x9))) := by rw [hσ125, sset_ne (fun q9 => absurd (tii 6 0 (by decide) (by decide) q9) (by decide))]; exact f122
            have f133 : σ125 (A 7) = some (eI g 0 3 (fun x9 => nI ((ar 7) x9))) := by rw [hσ125, sset_ne (fun q9 => absurd (tii 7 0 (by decide) (by decide) q9) (by decide))]; exact f123
            have f134 : σ125 q13_ = some (eI g 0 7 (fun x9 => nI ((va_up (va_up (va_up (va_up (va_up (va_up (va_up (fun _ => 0) 0 i) 1 j) 2 k) 3 0) 4 0) 5 0) 6 0) x9))) := by rw [hσ125, sset_ne (Ne.symm (sto_ne0 hn_q13_ w4))]; exact f124
            refine lv_iinc (k := 0) (v := (nI 4)) (lv' := [(6, .int (nI 4)), (5, .ref q13_), (4, .int (nI (ar 0 1))), (0, .ref m), (1, .int (nI i)), (2, .int (nI j)), (3, .int (nI k))]) F.x F.cd dX3_pipes_128 hl rfl (by decide) (by decide) rfl (fun ls hl => ?_)
            refine lv_goto (tgt := 100) F.x F.cd dX3_pipes_131 (by decide) ?_
            refine lv_iload F.x F.cd dX3_pipes_100 (lv_at hl 0 rfl) ?_
            refine lv_bipush (v := (nI 7)) F.x F.cd dX3_pipes_102 (by decide) ?_
            refine n_icmp_ge (a := 4) (b := 7) (tgt := 134) F (by omega) (by omega) dX3_pipes_104 (by decide) (fun c_104 => absurd c_104 (by decide)) (fun c_104 => ?_)
            refine lv_aload_n F.x F.cd dX3_pipes_107 rfl (lv_at hl 3 rfl) ?_
            refine s_get F hW (ci := 7) (C := RX3) (T := TX3) (N := 18) (v := .ref (A 0)) (f126) rfl in_X3 0 (by decide) q2279 (fun _ h9 => h9) rfl dX3_pipes_108 ?_
            refine lv_bipush (v := (nI 30)) F.x F.cd dX3_pipes_111 (by decide) ?_
            refine lv_bipush (v := (nI 7)) F.x F.cd dX3_pipes_113 (by decide) ?_
            refine lv_iload F.x F.cd dX3_pipes_115 (lv_at hl 2 rfl) ?_
            refine a_imul (v := (nI (7 * (ar 0 1)))) F (pk_mul _ _) dX3_pipes_117 ?_
            refine a_iadd (v := (nI (30 + (7 * (ar 0 1))))) F (nI_add _ _) dX3_pipes_118 ?_
            refine lv_iload F.x F.cd dX3_pipes_119 (lv_at hl 0 rfl) ?_
            refine a_iadd (v := (nI (30 + (7 * (ar 0 1)) + 4))) F (nI_add _ _) dX3_pipes_121 ?_
            refine lv_aload F.x F.cd dX3_pipes_122 (lv_at hl 1 rfl) ?_
            refine lv_iload F.x F.cd dX3_pipes_124 (lv_at hl 0 rfl) ?_
            refine n_iald (i := 4) (n := 7) (f := (fun x9 => nI ((va_up (va_up (va_up (va_up (va_up (va_up (va_up (fun _ => 0) 0 i) 1 j) 2 k) 3 0) 4 0) 5 0) 6 0) x9))) (x := (nI 0)) F hW (f134) (by omega) (by omega) (rfl) dX3_pipes_126 ?_
            refine n_iastN (i := 30 + (7 * (ar 0 1)) + 4) F hW (w125) (tbb 0 (by decide)) (by omega) (by omega) dX3_pipes_127 (fun H locs hW => ?_)
            obtain ⟨σ135, hσ135⟩ : ∃ z, z = sset σ125 (A 0) (eI g 0 114 (fun x9 => nI ((va_up (va_up (va_up (va_up (va_up (va_up (ar 0) 1 (ar 0 1 + 1)) (30 + (7 * (ar 0 1))) i) (30 + (7 * (ar 0 1)) + 1) j) (30 + (7 * (ar 0 1)) + 2) k) (30 + (7 * (ar 0 1)) + 3) 0) (30 + (7 * (ar 0 1)) + 4) 0) x9))) := ⟨_, rfl⟩
            have hW : Hl g σ135 H locs := by rw [hσ135]; exact hW
            have w135 : σ135 (A 0) = some (eI g 0 114 (fun x9 => nI ((va_up (va_up (va_up (va_up (va_up (va_up (ar 0) 1 (ar 0 1 + 1)) (30 + (7 * (ar 0 1))) i) (30 + (7 * (ar 0 1)) + 1) j) (30 + (7 * (ar 0 1)) + 2) k) (30 + (7 * (ar 0 1)) + 3) 0) (30 + (7 * (ar 0 1)) + 4) 0) x9))) := by rw [hσ135]; exact sset_eq
            have f136 : σ135 m = some (.inr (7, [.ref (A 0), .ref (A 1), .ref (A 2), .int (iv 3), .ref (A 3), .int (iv 5), .ref (A 4), .ref (A 5), .int (iv 8), .ref (A 6), .int (iv 10), .int (iv 11), .ref wd, .ref (A 7), .int (iv 14), .int (iv 15), .int (iv 16), .int (iv 17)])) := by rw [hσ135, sset_ne (sto_ne w125 f126 (by simp))]; exact f126
            have f137 : σ135 (A 1) = some (eI g 0 114 (fun x9 => nI ((ar 1) x9))) := by rw [hσ135, sset_ne (fun q9 => absurd (tii 1 0 (by decide) (by decide) q9) (by decide))]; exact f127
            have f138 : σ135 (A 2) = some (eI g 0 912 (fun x9 => nI ((ar 2) x9))) := by rw [hσ135, sset_ne (fun q9 => absurd (tii 2 0 (by decide) (by decide) q9) (by decide))]; exact f128
            have f139 : σ135 (A 3) = some (eI g 0 114 (fun x9 => nI ((ar 3) x9))) := by rw [hσ135, sset_ne (fun q9 => absurd (tii 3 0 (by decide) (by decide) q9) (by decide))]; exact f129
            have f140 : σ135 (A 4) = some (eI g 2 2048 (fun x9 => bI (rb x9))) := by rw [hσ135, sset_ne (fun q9 => absurd (tii 4 0 (by decide) (by decide) q9) (by decide))]; exact f130
            have f141 : σ135 (A 5) = some (eI g 3 60 (fun x9 => nI ((ar 5) x9))) := by rw [hσ135, sset_ne (fun q9 => absurd (tii 5 0 (by decide) (by decide) q9) (by decide))]; exact f131
            have f142 : σ135 (A 6) = some (eI g 3 60 (fun x9 => nI ((ar 6) x9))) := by rw [hσ135, sset_ne (fun q9 => absurd (tii 6 0 (by decide) (by decide) q9) (by decide))]; exact f132
            have f143 : σ135 (A 7) = some (eI g 0 3 (fun x9 => nI ((ar 7) x9))) := by rw [hσ135, sset_ne (fun q9 => absurd (tii 7 0 (by decide) (by decide) q9) (by decide))]; exact f133
            have f144 : σ135 q13_ = some (eI g 0 7 (fun x9 => nI ((va_up (va_up (va_up (va_up (va_up (va_up (va_up (fun _ => 0) 0 i) 1 j) 2 k) 3 0) 4 0) 5 0) 6 0) x9))) := by rw [hσ135, sset_ne (Ne.symm (sto_ne0 hn_q13_ w4))]; exact f134
            refine lv_iinc (k := 0) (v := (nI 5)) (lv' := [(6, .int (nI 5)), (5, .ref q13_), (4, .int (nI (ar 0 1))), (0, .ref m), (1, .int (nI i)), (2, .int (nI j)), (3, .int (nI k))]) F.x F.cd dX3_pipes_128 hl rfl (by decide) (by decide) rfl (fun ls hl => ?_)
            refine lv_goto (tgt := 100) F.x F.cd dX3_pipes_131 (by decide) ?_
            refine lv_iload F.x F.cd dX3_pipes_100 (lv_at hl 0 rfl) ?_
            refine lv_bipush (v := (nI 7)) F.x F.cd dX3_pipes_102 (by decide) ?_
            refine n_icmp_ge (a := 5) (b := 7) (tgt := 134) F (by omega) (by omega) dX3_pipes_104 (by decide) (fun c_104 => absurd c_104 (by decide)) (fun c_104 => ?_)
            refine lv_aload_n F.x F.cd dX3_pipes_107 rfl (lv_at hl 3 rfl) ?_
            refine s_get F hW (ci := 7) (C := RX3) (T := TX3) (N := 18) (v := .ref (A 0)) (f136) rfl in_X3 0 (by decide) q2279 (fun _ h9 => h9) rfl dX3_pipes_108 ?_
            refine lv_bipush (v := (nI 30)) F.x F.cd dX3_pipes_111 (by decide) ?_
            refine lv_bipush (v := (nI 7)) F.x F.cd dX3_pipes_113 (by decide) ?_
            refine lv_iload F.x F.cd dX3_pipes_115 (lv_at hl 2 rfl) ?_
            refine a_imul (v := (nI (7 * (ar 0 1)))) F (pk_mul _ _) dX3_pipes_117 ?_
            refine a_iadd (v := (nI (30 + (7 * (ar 0 1))))) F (nI_add _ _) dX3_pipes_118 ?_
            refine lv_iload F.x F.cd dX3_pipes_119 (lv_at hl 0 rfl) ?_
            refine a_iadd (v := (nI (30 + (7 * (ar 0 1)) + 5))) F (nI_add _ _) dX3_pipes_121 ?_
            refine lv_aload F.x F.cd dX3_pipes_122 (lv_at hl 1 rfl) ?_
            refine lv_iload F.x F.cd dX3_pipes_124 (lv_at hl 0 rfl) ?_
            refine n_iald (i := 5) (n := 7) (f := (fun x9 => nI ((va_up (va_up (va_up (va_up (va_up (va_up (va_up (fun _ => 0) 0 i) 1 j) 2 k) 3 0) 4 0) 5 0) 6 0) x9))) (x := (nI 0)) F hW (f144) (by omega) (by omega) (rfl) dX3_pipes_126 ?_
            refine n_iastN (i := 30 + (7 * (ar 0 1)) + 5) F hW (w135) (tbb 0 (by decide)) (by omega) (by omega) dX3_pipes_127 (fun H locs hW => ?_)
            obtain ⟨σ145, hσ145⟩ : ∃ z, z = sset σ135 (A 0) (eI g 0 114 (fun x9 => nI ((va_up (va_up (va_up (va_up (va_up (va_up (va_up (ar 0) 1 (ar 0 1 + 1)) (30 + (7 * (ar 0 1))) i) (30 + (7 * (ar 0 1)) + 1) j) (30 + (7 * (ar 0 1)) + 2) k) (30 + (7 * (ar 0 1)) + 3) 0) (30 + (7 * (ar 0 1)) + 4) 0) (30 + (7 * (ar 0 1)) + 5) 0) x9))) := ⟨_, rfl⟩
            have hW : Hl g σ145 H locs := by rw [hσ145]; exact hW
            have w145 : σ145 (A 0) = some (eI g 0 114 (fun x9 => nI ((va_up (va_up (va_up (va_up (va_up (va_up (va_up (ar 0) 1 (ar 0 1 + 1)) (30 + (7 * (ar 0 1))) i) (30 + (7 * (ar 0 1)) + 1) j) (30 + (7 * (ar 0 1)) + 2) k) (30 + (7 * (ar 0 1)) + 3) 0) (30 + (7 * (ar 0 1)) + 4) 0) (30 + (7 * (ar 0 1)) + 5) 0) x9))) := by rw [hσ145]; exact sset_eq
            have f146 : σ145 m = some (.inr (7, [.ref (A 0), .ref (A 1), .ref (A 2), .int (iv 3), .ref (A 3), .int (iv 5), .ref (A 4), .ref (A 5), .int (iv 8), .ref (A 6), .int (iv 10), .int (iv 11), .ref wd, .ref (A 7), .int (iv 14), .int (iv 15), .int (iv 16), .int (iv 17)])) := by rw [hσ145, sset_ne (sto_ne w135 f136 (by simp))]; exact f136
            have f147 : σ145 (A 1) = some (eI g 0 114 (fun x9 => nI ((ar 1) x9))) := by rw [hσ145, sset_ne (fun q9 => absurd (tii 1 0 (by decide) (by decide) q9) (by decide))]; exact f137
            have f148 : σ145 (A 2) = some (eI g 0 912 (fun x9 => nI ((ar 2) x9))) := by rw [hσ145, sset_ne (fun q9 => absurd (tii 2 0 (by decide) (by decide) q9) (by decide))]; exact f138
            have f149 : σ145 (A 3) = some (eI g 0 114 (fun x9 => nI ((ar 3) x9))) := by rw [hσ145, sset_ne (fun q9 => absurd (tii 3 0 (by decide) (by decide) q9) (by decide))]; exact f139
            have f150 : σ145 (A 4) = some (eI g 2 2048 (fun x9 => bI (rb x9))) := by rw [hσ145, sset_ne (fun q9 => absurd (tii 4 0 (by decide) (by decide) q9) (by decide))]; exact f140
            have f151 : σ145 (A 5) = some (eI g 3 60 (fun x9 => nI ((ar 5) x9))) := by rw [hσ145, sset_ne (fun q9 => absurd (tii 5 0 (by decide) (by decide) q9) (by decide))]; exact f141
            have f152 : σ145 (A 6) = some (eI g 3 60 (fun x9 => nI ((ar 6) x9))) := by rw [hσ145, sset_ne (fun q9 => absurd (tii 6 0 (by decide) (by decide) q9) (by decide))]; exact f142
            have f153 : σ145 (A 7) = some (eI g 0 3 (fun x9 => nI ((ar 7) x9))) := by rw [hσ145, sset_ne (fun q9 => absurd (tii 7 0 (by decide) (by decide) q9) (by decide))]; exact f143
            have f154 : σ145 q13_ = some (eI g 0 7 (fun x9 => nI ((va_up (va_up (va_up (va_up (va_up (va_up (va_up (fun _ => 0) 0 i) 1 j) 2 k) 3 0) 4 0) 5 0) 6 0) x9))) := by rw [hσ145, sset_ne (Ne.symm (sto_ne0 hn_q13_ w4))]; exact f144
            refine lv_iinc (k := 0) (v := (nI 6)) (lv' := [(6, .int (nI 6)), (5, .ref q13_), (4, .int (nI (ar 0 1))), (0, .ref m), (1, .int (nI i)), (2, .int (nI j)), (3, .int (nI k))]) F.x F.cd dX3_pipes_128 hl rfl (by decide) (by decide) rfl (fun ls hl => ?_)
            refine lv_goto (tgt := 100) F.x F.cd dX3_pipes_131 (by decide) ?_
            refine lv_iload F.x F.cd dX3_pipes_100 (lv_at hl 0 rfl) ?_
            refine lv_bipush (v := (nI 7)) F.x F.cd dX3_pipes_102 (by decide) ?_
            refine n_icmp_ge (a := 6) (b := 7) (tgt := 134) F (by omega) (by omega) dX3_pipes_104 (by decide) (fun c_104 => absurd c_104 (by decide)) (fun c_104 => ?_)
            refine lv_aload_n F.x F.cd dX3_pipes_107 rfl (lv_at hl 3 rfl) ?_
            refine s_get F hW (ci := 7) (C := RX3) (T := TX3) (N := 18) (v := .ref (A 0)) (f146) rfl in_X3 0 (by decide) q2279 (fun _ h9 => h9) rfl dX3_pipes_108 ?_
            refine lv_bipush (v := (nI 30)) F.x F.cd dX3_pipes_111 (by decide) ?_
            refine lv_bipush (v := (nI 7)) F.x F.cd dX3_pipes_113 (by decide) ?_
            refine lv_iload F.x F.cd dX3_pipes_115 (lv_at hl 2 rfl) ?_
            refine a_imul (v := (nI (7 * (ar 0 1)))) F (pk_mul _ _) dX3_pipes_117 ?_
            refine a_iadd (v := (nI (30 + (7 * (ar 0 1))))) F (nI_add _ _) dX3_pipes_118 ?_
            refine lv_iload F.x F.cd dX3_pipes_119 (lv_at hl 0 rfl) ?_
            refine a_iadd (v := (nI (30 + (7 * (ar 0 1)) + 6))) F (nI_add _ _) dX3_pipes_121 ?_
            refine lv_aload F.x F.cd dX3_pipes_122 (lv_at hl 1 rfl) ?_
            refine lv_iload F.x F.cd dX3_pipes_124 (lv_at hl 0 rfl) ?_
            refine n_iald (i := 6) (n := 7) (f := (fun x9 => nI ((va_up (va_up (va_up (va_up (va_up (va_up (va_up (fun _ => 0) 0 i) 1 j) 2 k) 3 0) 4 0) 5 0) 6 0) x9))) (x := (nI 0)) F hW (f154) (by omega) (by omega) (rfl) dX3_pipes_126 ?_
            refine n_iastN (i := 30 + (7 * (ar 0 1)) + 6) F hW (w145) (tbb 0 (by decide)) (by omega) (by omega) dX3_pipes_127 (fun H locs hW => ?_)
            obtain ⟨σ155, hσ155⟩ : ∃ z, z = sset σ145 (A 0) (eI g 0 114 (fun x9 => nI ((va_up (va_up (va_up (va_up (va_up (va_up (va_up (va_up (ar 0) 1 (ar 0 1 + 1)) (30 + (7 * (ar 0 1))) i) (30 + (7 * (ar 0 1)) + 1) j) (30 + (7 * (ar 0 1)) + 2) k) (30 + (7 * (ar 0 1)) + 3) 0) (30 + (7 * (ar 0 1)) + 4) 0) (30 + (7 * (ar 0 1)) + 5) 0) (30 + (7 * (ar 0 1)) + 6) 0) x9))) := ⟨_, rfl⟩
            have hW : Hl g σ155 H locs := by rw [hσ155]; exact hW
            have w155 : σ155 (A 0) = some (eI g 0 114 (fun x9 => nI ((va_up (va_up (va_up (va_up (va_up (va_up (va_up (va_up (ar 0) 1 (ar 0 1 + 1)) (30 + (7 * (ar 0 1))) i) (30 + (7 * (ar 0 1)) + 1) j) (30 + (7 * (ar 0 1)) + 2) k) (30 + (7 * (ar 0 1)) + 3) 0) (30 + (7 * (ar 0 1)) + 4) 0) (30 + (7 * (ar 0 1)) + 5) 0) (30 + (7 * (ar 0 1)) + 6) 0) x9))) := by rw [hσ155]; exact sset_eq
            have f156 : σ155 m = some (.inr (7, [.ref (A 0), .ref (A 1), .ref (A 2), .int (iv 3), .ref (A 3), .int (iv 5), .ref (A 4), .ref (A 5), .int (iv 8), .ref (A 6), .int (iv 10), .int (iv 11), .ref wd, .ref (A 7), .int (iv 14), .int (iv 15), .int (iv 16), .int (iv 17)])) := by rw [hσ155, sset_ne (sto_ne w145 f146 (by simp))]; exact f146
            have f157 : σ155 (A 1) = some (eI g 0 114 (fun x9 => nI ((ar 1) x9))) := by rw [hσ155, sset_ne (fun q9 => absurd (tii 1 0 (by decide) (by decide) q9) (by decide))]; exact f147
            have f158 : σ155 (A 2) = some (eI g 0 912 (fun x9 => nI ((ar 2) x9))) := by rw [hσ155, sset_ne (fun q9 => absurd (tii 2 0 (by decide) (by decide) q9) (by decide))]; exact f148
            have f159 : σ155 (A 3) = some (eI g 0 114 (fun x9 => nI ((ar 3) x9))) := by rw [hσ155, sset_ne (fun q9 => absurd (tii 3 0 (by decide) (by decide) q9) (by decide))]; exact f149
            have f160 : σ155 (A 4) = some (eI g 2 2048 (fun x9 => bI (rb x9))) := by rw [hσ155, sset_ne (fun q9 => absurd (tii 4 0 (by decide) (by decide) q9) (by decide))]; exact f150
            have f161 : σ155 (A 5) = some (eI g 3 60 (fun x9 => nI ((ar 5) x9))) := by rw [hσ155, sset_ne (fun q9 => absurd (tii 5 0 (by decide) (by decide) q9) (by decide))]; exact f151
            have f162 : σ155 (A 6) = some (eI g 3 60 (fun x9 => nI ((ar 6) x9))) := by rw [hσ155, sset_ne (fun q9 => absurd (tii 6 0 (by decide) (by decide) q9) (by decide))]; exact f152
            have f163 : σ155 (A 7) = some (eI g 0 3 (fun x9 => nI ((ar 7) x9))) := by rw [hσ155, sset_ne (fun q9 => absurd (tii 7 0 (by decide) (by decide) q9) (by decide))]; exact f153
            have f164 : σ155 q13_ = some (eI g 0 7 (fun x9 => nI ((va_up (va_up (va_up (va_up (va_up (va_up (va_up (fun _ => 0) 0 i) 1 j) 2 k) 3 0) 4 0) 5 0) 6 0) x9))) := by rw [hσ155, sset_ne (Ne.symm (sto_ne0 hn_q13_ w4))]; exact f154
            refine lv_iinc (k := 0) (v := (nI 7)) (lv' := [(6, .int (nI 7)), (5, .ref q13_), (4, .int (nI (ar 0 1))), (0, .ref m), (1, .int (nI i)), (2, .int (nI j)), (3, .int (nI k))]) F.x F.cd dX3_pipes_128 hl rfl (by decide) (by decide) rfl (fun ls hl => ?_)
            refine lv_goto (tgt := 100) F.x F.cd dX3_pipes_131 (by decide) ?_
            refine lv_iload F.x F.cd dX3_pipes_100 (lv_at hl 0 rfl) ?_
            refine lv_bipush (v := (nI 7)) F.x F.cd dX3_pipes_102 (by decide) ?_
            refine n_icmp_ge (a := 7) (b := 7) (tgt := 134) F (by omega) (by omega) dX3_pipes_104 (by decide) (fun c_104 => ?_) (fun c_104 => absurd (by decide) c_104)
            refine lv_aload_n F.x F.cd dX3_pipes_134 rfl (lv_at hl 3 rfl) ?_
            refine lv_iload F.x F.cd dX3_pipes_135 (lv_at hl 2 rfl) ?_
            have tw165 : IsTw g σ155 m A iv wd (va_up ar 0 (va_up (va_up (va_up (va_up (va_up (va_up (va_up (va_up (ar 0) 1 (ar 0 1 + 1)) (30 + (7 * (ar 0 1))) i) (30 + (7 * (ar 0 1)) + 1) j) (30 + (7 * (ar 0 1)) + 2) k) (30 + (7 * (ar 0 1)) + 3) 0) (30 + (7 * (ar 0 1)) + 4) 0) (30 + (7 * (ar 0 1)) + 5) 0) (30 + (7 * (ar 0 1)) + 6) 0)) rb := ⟨f156, tb0, w155, f157, f158, f159, f160, f161, f162, f163, tbb, tii⟩
            have fm165 : Fm σ σ155 m A := by rw [hσ155, hσ145, hσ135, hσ125, hσ115, hσ105, hσ95, hσ85, hσ75, hσ65, hσ55, hσ45, hσ35, hσ25, hσ15]; exact (((((((((((((((fm14).new hn_q13_).own (Fm.none fm14 tw14 hn_q13_)).own (Fm.none fm14 tw14 hn_q13_)).own (Fm.none fm14 tw14 hn_q13_)).own (Fm.none fm14 tw14 hn_q13_)).own (Fm.none fm14 tw14 hn_q13_)).own (Fm.none fm14 tw14 hn_q13_)).own (Fm.none fm14 tw14 hn_q13_)).setA 0 (by decide)).setA 0 (by decide)).setA 0 (by decide)).setA 0 (by decide)).setA 0 (by decide)).setA 0 (by decide)).setA 0 (by decide)
            refine s_callV (As := [.int (nI (ar 0 1))]) (rest := []) (C := RX3) (T := TX3) (N := 18) (n := 1) F hW (k_X3_does g l σ155 m A _ _ _ _ (nI (ar 0 1)) tw165 ) (f156) rfl q2354 q2356 qs35 q79 q2357 rfl (by decide +kernel) rfl ⟨⟨Nat.le_of_ble_eq_true rfl, Nat.le_of_ble_eq_true rfl⟩, ⟨(Nat.le_of_ble_eq_true rfl), (Nat.le_of_ble_eq_true rfl)⟩⟩ (Nat.le_of_ble_eq_true rfl) hl.1 rfl dX3_pipes_137 cX_no (fun r166 σ166 H locs hp166 hW => ?_)
            obtain ⟨rfl, tv166, fv166⟩ := hp166
            refine W.eq (g2 := F0 m_ 140 ls (.int (nI 0) :: [])) rfl ?_
            obtain ⟨t0_167, -, ta0_167, ta1_167, ta2_167, ta3_167, ta4_167, ta5_167, ta6_167, ta7_167, -, -⟩ := id tv166
            have fm_167 : Fm σ σ166 m A := (fm165).trans fv166
            have tw_167 : IsTw g σ166 m A (va_up iv 16 (nI (ar 0 1))) wd (va_up ar 0 (va_up (va_up (va_up (va_up (va_up (va_up (va_up (va_up (ar 0) 1 (ar 0 1 + 1)) (30 + (7 * (ar 0 1))) i) (30 + (7 * (ar 0 1)) + 1) j) (30 + (7 * (ar 0 1)) + 2) k) (30 + (7 * (ar 0 1)) + 3) 0) (30 + (7 * (ar 0 1)) + 4) 0) (30 + (7 * (ar 0 1)) + 5) 0) (30 + (7 * (ar 0 1)) + 6) 0)) rb := ⟨t0_167, tb0, ta0_167, ta1_167, ta2_167, ta3_167, ta4_167, ta5_167, ta6_167, ta7_167, tbb, tii⟩
            have tw_168 : IsTw g σ166 m A (va_up iv 16 (nI (ar 0 1))) wd (va_up ar 0 (va_up (upP (ar 0) (ar 0 1) i j k 0 0 0 0) 1 (ar 0 1 + 1))) rb := by
              rw [← tw_pipe]
              exact ⟨t0_167, tb0, ta0_167, ta1_167, ta2_167, ta3_167, ta4_167, ta5_167, ta6_167, ta7_167, tbb, tii⟩
            obtain ⟨t0_168, -, ta0_168, ta1_168, ta2_168, ta3_168, ta4_168, ta5_168, ta6_168, ta7_168, -, -⟩ := id tw_168
            subst hQ
            exact s_reti (v := (nI 0)) F hW rfl (TC.ok (by rw [pipeR, if_pos (by simp [c_5, c_13]), if_pos (by simp [hne9, c_31]), if_pos (by omega), cl_nI (by omega), cl_nI (by omega), cl_nI (by omega)]) tw_168 fm_167) ⟨(Nat.le_of_ble_eq_true rfl), (Nat.le_of_ble_eq_true rfl)⟩ dX3_pipes_140
          · refine lv_iconst (v := (nI 3)) F.x F.cd dX3_pipes_47 (by decide) ?_
            subst hQ
            exact s_reti (v := (nI 3)) F hW rfl (TC.err "state" (by rw [pipeR, if_pos (by simp [c_5, c_13]), if_pos (by simp [hne9, c_31]), if_neg (by omega)]) (by decide) hw Fm.refl) ⟨(Nat.le_of_ble_eq_true rfl), (Nat.le_of_ble_eq_true rfl)⟩ dX3_pipes_48
        · refine lv_iconst (v := (nI 2)) F.x F.cd dX3_pipes_34 (by decide) ?_
          subst hQ
          exact s_reti (v := (nI 2)) F hW rfl (TC.err "argument" (by rw [pipeR, if_pos (by simp [c_5, c_13]), if_neg (by simp [c_20, c_31])]) (by decide) hw Fm.refl) ⟨(Nat.le_of_ble_eq_true rfl), (Nat.le_of_ble_eq_true rfl)⟩ dX3_pipes_35
    · refine lv_iconst (v := (nI 1)) F.x F.cd dX3_pipes_16 (by decide) ?_
      subst hQ
      exact s_reti (v := (nI 1)) F hW rfl (TC.err "index" (by rw [pipeR, if_neg (by simp [c_5, c_13])]) (by decide) hw Fm.refl) ⟨(Nat.le_of_ble_eq_true rfl), (Nat.le_of_ble_eq_true rfl)⟩ dX3_pipes_17
set_option maxHeartbeats 4000000 in
theorem k_X3_pours (g : Gh) (l : Launch) (σ : Sto) (m : Nat) (A : Nat → Nat) (iv : Nat → Int32) (wd : Nat) (ar : Nat → Nat → Nat) (rb : Nat → Bool) (a x s : Int32) (hw : IsTw g σ m A iv wd ar rb) (hI : Inv (ar 0)) : Ct g l yX3_pours cX3_pours 5 (some .int) ({ frames := 2, cells := 0, slots := 0, locals := 43 } : Room) [.ref m, .int a, .int x, .int s] σ (fun r σ' => TC g σ m A iv wd ar rb (pourR (ar 0) a x s) en3 r σ') (nox) := by
  refine Ct.body (by decide) (Nat.le_of_ble_eq_true rfl) ?_
  intro p_ e_ s_ m_ args_ below_ meth_ c_ ls H locs Q F hW hl hQ
  have hl : lv_has ls 5 [(0, .ref m), (1, .int a), (2, .int x), (3, .int s)] := hl
  obtain ⟨t0, tb0, ta0, ta1, ta2, ta3, ta4, ta5, ta6, ta7, tbb, tii⟩ := id hw
  have hv0 := hI.1
  have hv1 := hI.2.1
  refine lv_aload_n F.x F.cd dX3_pours_0 rfl (lv_at hl 0 rfl) ?_
  refine lv_iload_n F.x F.cd dX3_pours_1 rfl (lv_at hl 1 rfl) ?_
  refine s_callV (As := [.int a]) (rest := []) (C := RX3) (T := TX3) (N := 18) (n := 1) F hW (k_X3_isTank g l σ m A _ _ _ _ a hw ) (t0) rfl q2374 q2376 qs39 q79 q2377 rfl (by decide +kernel) rfl ⟨⟨Nat.le_of_ble_eq_true rfl, Nat.le_of_ble_eq_true rfl⟩, ⟨(Nat.le_of_ble_eq_true rfl), (Nat.le_of_ble_eq_true rfl)⟩⟩ (Nat.le_of_ble_eq_true rfl) hl.1 rfl dX3_pours_2 cX_no (fun r1 σ1 H locs hp1 hW => ?_)
  obtain ⟨rfl, hs1⟩ := hp1
  rw [hs1] at hW
  refine W.eq (g2 := F0 m_ 5 ls (.int (bI (inN a ((ar 0) 0))) :: [])) rfl ?_
  refine b_if_ne (b := (inN a ((ar 0) 0))) (tgt := 10) F dX3_pours_5 (by decide) (fun c_5 => ?_) (fun c_5 => ?_)
  · obtain ⟨i, hi, rfl⟩ := (inN_iff (show ar 0 0 < 2 ^ 30 by omega)).mp c_5
    refine lv_iload_n F.x F.cd dX3_pours_10 rfl (lv_at hl 2 rfl) ?_
    refine lv_iconst (v := (nI 1)) F.x F.cd dX3_pours_11 (by decide) ?_
    refine lv_sipush (v := (nI 999)) F.x F.cd dX3_pours_12 (by decide) ?_
    refine s_callS (As := [.int x, .int (nI 1), .int (nI 999)]) (rest := []) (n := 3) F hW (k_X3_in g l σ x (nI 1) (nI 999)) q2351 q2352 q79 q2353 (by decide +kernel) rfl ⟨⟨Nat.le_of_ble_eq_true rfl, Nat.le_of_ble_eq_true rfl⟩, ⟨(Nat.le_of_ble_eq_true rfl), (Nat.le_of_ble_eq_true rfl)⟩⟩ (Nat.le_of_ble_eq_true rfl) hl.1 rfl dX3_pours_15 cX_no (fun r2 σ2 H locs hp2 hW => ?_)
    obtain ⟨rfl, hs2⟩ := hp2
    rw [hs2] at hW
    refine W.eq (g2 := F0 m_ 18 ls (.int (bI (btw x (nI 1) (nI 999))) :: [])) rfl ?_
    refine b_if_eq (b := (btw x (nI 1) (nI 999))) (tgt := 32) F dX3_pours_18 (by decide) (fun c_18 => ?_) (fun c_18 => ?_)
    · refine lv_iconst (v := (nI 2)) F.x F.cd dX3_pours_32 (by decide) ?_
      subst hQ
      exact s_reti (v := (nI 2)) F hW rfl (TC.err "argument" (by rw [pourR, if_pos c_5, if_neg (by simp [c_18])]) (by decide) hw Fm.refl) ⟨(Nat.le_of_ble_eq_true rfl), (Nat.le_of_ble_eq_true rfl)⟩ dX3_pours_33
    · refine lv_iload_n F.x F.cd dX3_pours_21 rfl (lv_at hl 3 rfl) ?_
      refine lv_iconst (v := (nI 0)) F.x F.cd dX3_pours_22 (by decide) ?_
      refine lv_sipush (v := (nI 255)) F.x F.cd dX3_pours_23 (by decide) ?_
      refine s_callS (As := [.int s, .int (nI 0), .int (nI 255)]) (rest := []) (n := 3) F hW (k_X3_in g l σ s (nI 0) (nI 255)) q2351 q2352 q79 q2353 (by decide +kernel) rfl ⟨⟨Nat.le_of_ble_eq_true rfl, Nat.le_of_ble_eq_true rfl⟩, ⟨(Nat.le_of_ble_eq_true rfl), (Nat.le_of_ble_eq_true rfl)⟩⟩ (Nat.le_of_ble_eq_true rfl) hl.1 rfl dX3_pours_26 cX_no (fun r3 σ3 H locs hp3 hW => ?_)
      obtain ⟨rfl, hs3⟩ := hp3
      rw [hs3] at hW
      refine W.eq (g2 := F0 m_ 29 ls (.int (bI (btw s (nI 0) (nI 255))) :: [])) rfl ?_
      refine b_if_ne (b := (btw s (nI 0) (nI 255))) (tgt := 34) F dX3_pours_29 (by decide) (fun c_29 => ?_) (fun c_29 => ?_)
      · obtain ⟨n, hn1, hn2, rfl⟩ := (btw_iff (by decide) (by decide)).mp c_18
        obtain ⟨k, hk1, hk2, rfl⟩ := (btw_iff (by decide) (by decide)).mp c_29
        have hti := hI.tk hi
        refine lv_bipush (v := (nI 6)) F.x F.cd dX3_pours_34 (by decide) ?_
        refine lv_iconst (v := (nI 3)) F.x F.cd dX3_pours_36 (by decide) ?_
        refine lv_iload_n F.x F.cd dX3_pours_37 rfl (lv_at hl 1 rfl) ?_
        refine a_imul (v := (nI (3 * i))) F (pk_mul _ _) dX3_pours_38 ?_
        refine a_iadd (v := (nI (6 + (3 * i)))) F (nI_add _ _) dX3_pours_39 ?_
        refine lv_istore (lv' := [(4, .int (nI (6 + (3 * i)))), (0, .ref m), (1, .int (nI i)), (2, .int (nI n)), (3, .int (nI k))]) F.x F.cd dX3_pours_40 hl (by decide) rfl (fun ls hl => ?_)
        refine lv_aload_n F.x F.cd dX3_pours_42 rfl (lv_at hl 1 rfl) ?_
        refine s_get F hW (ci := 7) (C := RX3) (T := TX3) (N := 18) (v := .ref (A 0)) (t0) rfl in_X3 0 (by decide) q2279 (fun _ h9 => h9) rfl dX3_pours_43 ?_
        refine lv_iload F.x F.cd dX3_pours_46 (lv_at hl 0 rfl) ?_
        refine lv_iconst (v := (nI 1)) F.x F.cd dX3_pours_48 (by decide) ?_
        refine a_iadd (v := (nI (6 + (3 * i) + 1))) F (nI_add _ _) dX3_pours_49 ?_
        refine n_iald (i := 6 + (3 * i) + 1) (n := 114) (f := (fun x9 => nI ((ar 0) x9))) (x := (nI (tK (ar 0) i))) F hW (ta0) (by omega) (by omega) (rfl) dX3_pours_50 ?_
        refine lv_iload_n F.x F.cd dX3_pours_51 rfl (lv_at hl 3 rfl) ?_
        refine a_iadd (v := (nI (tK (ar 0) i + n))) F (nI_add _ _) dX3_pours_52 ?_
        refine lv_aload_n F.x F.cd dX3_pours_53 rfl (lv_at hl 1 rfl) ?_
        refine s_get F hW (ci := 7) (C := RX3) (T := TX3) (N := 18) (v := .ref (A 0)) (t0) rfl in_X3 0 (by decide) q2279 (fun _ h9 => h9) rfl dX3_pours_54 ?_
        refine lv_iload F.x F.cd dX3_pours_57 (lv_at hl 0 rfl) ?_
        refine n_iald (i := 6 + (3 * i)) (n := 114) (f := (fun x9 => nI ((ar 0) x9))) (x := (nI (tC (ar 0) i))) F hW (ta0) (by omega) (by omega) (rfl) dX3_pours_59 ?_
        refine n_icmp_le (a := tK (ar 0) i + n) (b := tC (ar 0) i) (tgt := 65) F (by omega) (by omega) dX3_pours_60 (by decide) (fun c_60 => ?_) (fun c_60 => ?_)
        · refine lv_aload_n F.x F.cd dX3_pours_65 rfl (lv_at hl 1 rfl) ?_
          refine s_get F hW (ci := 7) (C := RX3) (T := TX3) (N := 18) (v := .ref (A 0)) (t0) rfl in_X3 0 (by decide) q2279 (fun _ h9 => h9) rfl dX3_pours_66 ?_
          refine lv_iload F.x F.cd dX3_pours_69 (lv_at hl 0 rfl) ?_
          refine lv_iconst (v := (nI 1)) F.x F.cd dX3_pours_71 (by decide) ?_
          refine a_iadd (v := (nI (6 + (3 * i) + 1))) F (nI_add _ _) dX3_pours_72 ?_
          refine lv_dup2_11 F.x F.cd dX3_pours_73 rfl rfl ?_
          refine n_iald (i := 6 + (3 * i) + 1) (n := 114) (f := (fun x9 => nI ((ar 0) x9))) (x := (nI (tK (ar 0) i))) F hW (ta0) (by omega) (by omega) (rfl) dX3_pours_74 ?_
          refine lv_iload_n F.x F.cd dX3_pours_75 rfl (lv_at hl 3 rfl) ?_
          refine a_iadd (v := (nI (tK (ar 0) i + n))) F (nI_add _ _) dX3_pours_76 ?_
          refine n_iastN (i := 6 + (3 * i) + 1) F hW (ta0) (tbb 0 (by decide)) (by omega) (by omega) dX3_pours_77 (fun H locs hW => ?_)
          obtain ⟨σ4, hσ4⟩ : ∃ z, z = sset σ (A 0) (eI g 0 114 (fun x9 => nI ((va_up (ar 0) (6 + (3 * i) + 1) (tK (ar 0) i + n)) x9))) := ⟨_, rfl⟩
          have hW : Hl g σ4 H locs := by rw [hσ4]; exact hW
          have w4 : σ4 (A 0) = some (eI g 0 114 (fun x9 => nI ((va_up (ar 0) (6 + (3 * i) + 1) (tK (ar 0) i + n)) x9))) := by rw [hσ4]; exact sset_eq
          have f5 : σ4 m = some (.inr (7, [.ref (A 0), .ref (A 1), .ref (A 2), .int (iv 3), .ref (A 3), .int (iv 5), .ref (A 4), .ref (A 5), .int (iv 8), .ref (A 6), .int (iv 10), .int (iv 11), .ref wd, .ref (A 7), .int (iv 14), .int (iv 15), .int (iv 16), .int (iv 17)])) := by rw [hσ4, sset_ne (sto_ne ta0 t0 (by simp))]; exact t0
          have f6 : σ4 (A 1) = some (eI g 0 114 (fun x9 => nI ((ar 1) x9))) := by rw [hσ4, sset_ne (fun q9 => absurd (tii 1 0 (by decide) (by decide) q9) (by decide))]; exact ta1
          have f7 : σ4 (A 2) = some (eI g 0 912 (fun x9 => nI ((ar 2) x9))) := by rw [hσ4, sset_ne (fun q9 => absurd (tii 2 0 (by decide) (by decide) q9) (by decide))]; exact ta2
          have f8 : σ4 (A 3) = some (eI g 0 114 (fun x9 => nI ((ar 3) x9))) := by rw [hσ4, sset_ne (fun q9 => absurd (tii 3 0 (by decide) (by decide) q9) (by decide))]; exact ta3
          have f9 : σ4 (A 4) = some (eI g 2 2048 (fun x9 => bI (rb x9))) := by rw [hσ4, sset_ne (fun q9 => absurd (tii 4 0 (by decide) (by decide) q9) (by decide))]; exact ta4
          have f10 : σ4 (A 5) = some (eI g 3 60 (fun x9 => nI ((ar 5) x9))) := by rw [hσ4, sset_ne (fun q9 => absurd (tii 5 0 (by decide) (by decide) q9) (by decide))]; exact ta5
          have f11 : σ4 (A 6) = some (eI g 3 60 (fun x9 => nI ((ar 6) x9))) := by rw [hσ4, sset_ne (fun q9 => absurd (tii 6 0 (by decide) (by decide) q9) (by decide))]; exact ta6
          have f12 : σ4 (A 7) = some (eI g 0 3 (fun x9 => nI ((ar 7) x9))) := by rw [hσ4, sset_ne (fun q9 => absurd (tii 7 0 (by decide) (by decide) q9) (by decide))]; exact ta7
          refine lv_aload_n F.x F.cd dX3_pours_78 rfl (lv_at hl 1 rfl) ?_
          refine s_get F hW (ci := 7) (C := RX3) (T := TX3) (N := 18) (v := .ref (A 0)) (f5) rfl in_X3 0 (by decide) q2279 (fun _ h9 => h9) rfl dX3_pours_79 ?_
          refine lv_iload F.x F.cd dX3_pours_82 (lv_at hl 0 rfl) ?_
          refine lv_iconst (v := (nI 2)) F.x F.cd dX3_pours_84 (by decide) ?_
          refine a_iadd (v := (nI (6 + (3 * i) + 2))) F (nI_add _ _) dX3_pours_85 ?_
          refine lv_dup2_11 F.x F.cd dX3_pours_86 rfl rfl ?_
          refine n_iald (i := 6 + (3 * i) + 2) (n := 114) (f := (fun x9 => nI ((va_up (ar 0) (6 + (3 * i) + 1) (tK (ar 0) i + n)) x9))) (x := (nI (tI (ar 0) i))) F hW (w4) (by omega) (by omega) (by show nI _ = nI _; rw [va_up_ne _ _ (by omega)]) dX3_pours_87 ?_
          refine lv_iload_n F.x F.cd dX3_pours_88 rfl (lv_at hl 4 rfl) ?_
          refine a_ior (v := (nI (tI (ar 0) i ||| k))) F (nI_or _ _) dX3_pours_89 ?_
          refine n_iastN (i := 6 + (3 * i) + 2) F hW (w4) (tbb 0 (by decide)) (by omega) (by omega) dX3_pours_90 (fun H locs hW => ?_)
          obtain ⟨σ13, hσ13⟩ : ∃ z, z = sset σ4 (A 0) (eI g 0 114 (fun x9 => nI ((va_up (va_up (ar 0) (6 + (3 * i) + 1) (tK (ar 0) i + n)) (6 + (3 * i) + 2) (tI (ar 0) i ||| k)) x9))) := ⟨_, rfl⟩
          have hW : Hl g σ13 H locs := by rw [hσ13]; exact hW
          have w13 : σ13 (A 0) = some (eI g 0 114 (fun x9 => nI ((va_up (va_up (ar 0) (6 + (3 * i) + 1) (tK (ar 0) i + n)) (6 + (3 * i) + 2) (tI (ar 0) i ||| k)) x9))) := by rw [hσ13]; exact sset_eq
          have f14 : σ13 m = some (.inr (7, [.ref (A 0), .ref (A 1), .ref (A 2), .int (iv 3), .ref (A 3), .int (iv 5), .ref (A 4), .ref (A 5), .int (iv 8), .ref (A 6), .int (iv 10), .int (iv 11), .ref wd, .ref (A 7), .int (iv 14), .int (iv 15), .int (iv 16), .int (iv 17)])) := by rw [hσ13, sset_ne (sto_ne w4 f5 (by simp))]; exact f5
          have f15 : σ13 (A 1) = some (eI g 0 114 (fun x9 => nI ((ar 1) x9))) := by rw [hσ13, sset_ne (fun q9 => absurd (tii 1 0 (by decide) (by decide) q9) (by decide))]; exact f6
          have f16 : σ13 (A 2) = some (eI g 0 912 (fun x9 => nI ((ar 2) x9))) := by rw [hσ13, sset_ne (fun q9 => absurd (tii 2 0 (by decide) (by decide) q9) (by decide))]; exact f7
          have f17 : σ13 (A 3) = some (eI g 0 114 (fun x9 => nI ((ar 3) x9))) := by rw [hσ13, sset_ne (fun q9 => absurd (tii 3 0 (by decide) (by decide) q9) (by decide))]; exact f8
          have f18 : σ13 (A 4) = some (eI g 2 2048 (fun x9 => bI (rb x9))) := by rw [hσ13, sset_ne (fun q9 => absurd (tii 4 0 (by decide) (by decide) q9) (by decide))]; exact f9
          have f19 : σ13 (A 5) = some (eI g 3 60 (fun x9 => nI ((ar 5) x9))) := by rw [hσ13, sset_ne (fun q9 => absurd (tii 5 0 (by decide) (by decide) q9) (by decide))]; exact f10
          have f20 : σ13 (A 6) = some (eI g 3 60 (fun x9 => nI ((ar 6) x9))) := by rw [hσ13, sset_ne (fun q9 => absurd (tii 6 0 (by decide) (by decide) q9) (by decide))]; exact f11
          have f21 : σ13 (A 7) = some (eI g 0 3 (fun x9 => nI ((ar 7) x9))) := by rw [hσ13, sset_ne (fun q9 => absurd (tii 7 0 (by decide) (by decide) q9) (by decide))]; exact f12
          refine lv_aload_n F.x F.cd dX3_pours_91 rfl (lv_at hl 1 rfl) ?_
          refine s_get F hW (ci := 7) (C := RX3) (T := TX3) (N := 18) (v := .ref (A 0)) (f14) rfl in_X3 0 (by decide) q2279 (fun _ h9 => h9) rfl dX3_pours_92 ?_
          refine lv_iconst (v := (nI 3)) F.x F.cd dX3_pours_95 (by decide) ?_
          refine lv_dup2_11 F.x F.cd dX3_pours_96 rfl rfl ?_
          refine n_iald (i := 3) (n := 114) (f := (fun x9 => nI ((va_up (va_up (ar 0) (6 + (3 * i) + 1) (tK (ar 0) i + n)) (6 + (3 * i) + 2) (tI (ar 0) i ||| k)) x9))) (x := (nI (ar 0 3))) F hW (w13) (by omega) (by omega) (by show nI _ = nI _; rw [va_up_ne _ _ (by omega), va_up_ne _ _ (by omega)]) dX3_pours_97 ?_
          refine lv_iload_n F.x F.cd dX3_pours_98 rfl (lv_at hl 3 rfl) ?_
          refine a_iadd (v := (nI (ar 0 3 + n))) F (nI_add _ _) dX3_pours_99 ?_
          refine n_iastN (i := 3) F hW (w13) (tbb 0 (by decide)) (by omega) (by omega) dX3_pours_100 (fun H locs hW => ?_)
          obtain ⟨σ22, hσ22⟩ : ∃ z, z = sset σ13 (A 0) (eI g 0 114 (fun x9 => nI ((va_up (va_up (va_up (ar 0) (6 + (3 * i) + 1) (tK (ar 0) i + n)) (6 + (3 * i) + 2) (tI (ar 0) i ||| k)) 3 (ar 0 3 + n)) x9))) := ⟨_, rfl⟩
          have hW : Hl g σ22 H locs := by rw [hσ22]; exact hW
          have w22 : σ22 (A 0) = some (eI g 0 114 (fun x9 => nI ((va_up (va_up (va_up (ar 0) (6 + (3 * i) + 1) (tK (ar 0) i + n)) (6 + (3 * i) + 2) (tI (ar 0) i ||| k)) 3 (ar 0 3 + n)) x9))) := by rw [hσ22]; exact sset_eq
          have f23 : σ22 m = some (.inr (7, [.ref (A 0), .ref (A 1), .ref (A 2), .int (iv 3), .ref (A 3), .int (iv 5), .ref (A 4), .ref (A 5), .int (iv 8), .ref (A 6), .int (iv 10), .int (iv 11), .ref wd, .ref (A 7), .int (iv 14), .int (iv 15), .int (iv 16), .int (iv 17)])) := by rw [hσ22, sset_ne (sto_ne w13 f14 (by simp))]; exact f14
          have f24 : σ22 (A 1) = some (eI g 0 114 (fun x9 => nI ((ar 1) x9))) := by rw [hσ22, sset_ne (fun q9 => absurd (tii 1 0 (by decide) (by decide) q9) (by decide))]; exact f15
          have f25 : σ22 (A 2) = some (eI g 0 912 (fun x9 => nI ((ar 2) x9))) := by rw [hσ22, sset_ne (fun q9 => absurd (tii 2 0 (by decide) (by decide) q9) (by decide))]; exact f16
          have f26 : σ22 (A 3) = some (eI g 0 114 (fun x9 => nI ((ar 3) x9))) := by rw [hσ22, sset_ne (fun q9 => absurd (tii 3 0 (by decide) (by decide) q9) (by decide))]; exact f17
          have f27 : σ22 (A 4) = some (eI g 2 2048 (fun x9 => bI (rb x9))) := by rw [hσ22, sset_ne (fun q9 => absurd (tii 4 0 (by decide) (by decide) q9) (by decide))]; exact f18
          have f28 : σ22 (A 5) = some (eI g 3 60 (fun x9 => nI ((ar 5) x9))) := by rw [hσ22, sset_ne (fun q9 => absurd (tii 5 0 (by decide) (by decide) q9) (by decide))]; exact f19
          have f29 : σ22 (A 6) = some (eI g 3 60 (fun x9 => nI ((ar 6) x9))) := by rw [hσ22, sset_ne (fun q9 => absurd (tii 6 0 (by decide) (by decide) q9) (by decide))]; exact f20
          have f30 : σ22 (A 7) = some (eI g 0 3 (fun x9 => nI ((ar 7) x9))) := by rw [hσ22, sset_ne (fun q9 => absurd (tii 7 0 (by decide) (by decide) q9) (by decide))]; exact f21
          refine lv_aload_n F.x F.cd dX3_pours_101 rfl (lv_at hl 1 rfl) ?_
          refine lv_aload_n F.x F.cd dX3_pours_102 rfl (lv_at hl 1 rfl) ?_
          refine s_get F hW (ci := 7) (C := RX3) (T := TX3) (N := 18) (v := .ref (A 0)) (f23) rfl in_X3 0 (by decide) q2279 (fun _ h9 => h9) rfl dX3_pours_103 ?_
          refine lv_iload F.x F.cd dX3_pours_106 (lv_at hl 0 rfl) ?_
          refine lv_iconst (v := (nI 1)) F.x F.cd dX3_pours_108 (by decide) ?_
          refine a_iadd (v := (nI (6 + (3 * i) + 1))) F (nI_add _ _) dX3_pours_109 ?_
          refine n_iald (i := 6 + (3 * i) + 1) (n := 114) (f := (fun x9 => nI ((va_up (va_up (va_up (ar 0) (6 + (3 * i) + 1) (tK (ar 0) i + n)) (6 + (3 * i) + 2) (tI (ar 0) i ||| k)) 3 (ar 0 3 + n)) x9))) (x := (nI (tK (ar 0) i + n))) F hW (w22) (by omega) (by omega) (by show nI _ = nI _; rw [va_up_ne _ _ (by omega), va_up_ne _ _ (by omega), va_up_self]) dX3_pours_110 ?_
          have tw31 : IsTw g σ22 m A iv wd (va_up ar 0 (va_up (va_up (va_up (ar 0) (6 + (3 * i) + 1) (tK (ar 0) i + n)) (6 + (3 * i) + 2) (tI (ar 0) i ||| k)) 3 (ar 0 3 + n))) rb := ⟨f23, tb0, w22, f24, f25, f26, f27, f28, f29, f30, tbb, tii⟩
          have fm31 : Fm σ σ22 m A := by rw [hσ22, hσ13, hσ4]; exact (((Fm.refl).setA 0 (by decide)).setA 0 (by decide)).setA 0 (by decide)
          refine s_callV (As := [.int (nI (tK (ar 0) i + n))]) (rest := []) (C := RX3) (T := TX3) (N := 18) (n := 1) F hW (k_X3_does g l σ22 m A _ _ _ _ (nI (tK (ar 0) i + n)) tw31 ) (f23) rfl q2354 q2356 qs35 q79 q2357 rfl (by decide +kernel) rfl ⟨⟨Nat.le_of_ble_eq_true rfl, Nat.le_of_ble_eq_true rfl⟩, ⟨(Nat.le_of_ble_eq_true rfl), (Nat.le_of_ble_eq_true rfl)⟩⟩ (Nat.le_of_ble_eq_true rfl) hl.1 rfl dX3_pours_111 cX_no (fun r32 σ32 H locs hp32 hW => ?_)
          obtain ⟨rfl, tv32, fv32⟩ := hp32
          refine W.eq (g2 := F0 m_ 114 ls (.int (nI 0) :: [])) rfl ?_
          obtain ⟨t0_33, -, ta0_33, ta1_33, ta2_33, ta3_33, ta4_33, ta5_33, ta6_33, ta7_33, -, -⟩ := id tv32
          have fm_33 : Fm σ σ32 m A := (fm31).trans fv32
          have tw_33 : IsTw g σ32 m A (va_up iv 16 (nI (tK (ar 0) i + n))) wd (va_up ar 0 (va_up (va_up (va_up (ar 0) (6 + (3 * i) + 1) (tK (ar 0) i + n)) (6 + (3 * i) + 2) (tI (ar 0) i ||| k)) 3 (ar 0 3 + n))) rb := ⟨t0_33, tb0, ta0_33, ta1_33, ta2_33, ta3_33, ta4_33, ta5_33, ta6_33, ta7_33, tbb, tii⟩
          have tw_34 : IsTw g σ32 m A (va_up iv 16 (nI (tK (ar 0) i + n))) wd (va_up ar 0 (pourV (ar 0) i n k)) rb := by
            rw [← tw_pour]
            exact ⟨t0_33, tb0, ta0_33, ta1_33, ta2_33, ta3_33, ta4_33, ta5_33, ta6_33, ta7_33, tbb, tii⟩
          obtain ⟨t0_34, -, ta0_34, ta1_34, ta2_34, ta3_34, ta4_34, ta5_34, ta6_34, ta7_34, -, -⟩ := id tw_34
          subst hQ
          exact s_reti (v := (nI 0)) F hW rfl (TC.ok (by rw [pourR, if_pos c_5, if_pos (by simp [c_18, c_29]), cl_nI (by omega), cl_nI (by omega), cl_nI (by omega), if_pos (by omega)]) tw_34 fm_33) ⟨(Nat.le_of_ble_eq_true rfl), (Nat.le_of_ble_eq_true rfl)⟩ dX3_pours_114
        · refine lv_iconst (v := (nI 3)) F.x F.cd dX3_pours_63 (by decide) ?_
          subst hQ
          exact s_reti (v := (nI 3)) F hW rfl (TC.err "rule" (by rw [pourR, if_pos c_5, if_pos (by simp [c_18, c_29]), cl_nI (by omega), cl_nI (by omega), if_neg (by omega)]) (by decide) hw Fm.refl) ⟨(Nat.le_of_ble_eq_true rfl), (Nat.le_of_ble_eq_true rfl)⟩ dX3_pours_64
      · refine lv_iconst (v := (nI 2)) F.x F.cd dX3_pours_32 (by decide) ?_
        subst hQ
        exact s_reti (v := (nI 2)) F hW rfl (TC.err "argument" (by rw [pourR, if_pos c_5, if_neg (by simp [c_18, c_29])]) (by decide) hw Fm.refl) ⟨(Nat.le_of_ble_eq_true rfl), (Nat.le_of_ble_eq_true rfl)⟩ dX3_pours_33
  · refine lv_iconst (v := (nI 1)) F.x F.cd dX3_pours_8 (by decide) ?_
    subst hQ
    exact s_reti (v := (nI 1)) F hW rfl (TC.err "index" (by rw [pourR, if_neg (by rw [c_5]; decide)]) (by decide) hw Fm.refl) ⟨(Nat.le_of_ble_eq_true rfl), (Nat.le_of_ble_eq_true rfl)⟩ dX3_pours_9
set_option maxHeartbeats 4000000 in
theorem k_X3_draws (g : Gh) (l : Launch) (σ : Sto) (m : Nat) (A : Nat → Nat) (iv : Nat → Int32) (wd : Nat) (ar : Nat → Nat → Nat) (rb : Nat → Bool) (a x : Int32) (hw : IsTw g σ m A iv wd ar rb) (hI : Inv (ar 0)) : Ct g l yX3_draws cX3_draws 4 (some .int) ({ frames := 2, cells := 0, slots := 0, locals := 43 } : Room) [.ref m, .int a, .int x] σ (fun r σ' => TC g σ m A iv wd ar rb (drawR (ar 0) a x) en3 r σ') (nox) := by
  refine Ct.body (by decide) (Nat.le_of_ble_eq_true rfl) ?_
  intro p_ e_ s_ m_ args_ below_ meth_ c_ ls H locs Q F hW hl hQ
  have hl : lv_has ls 4 [(0, .ref m), (1, .int a), (2, .int x)] := hl
  obtain ⟨t0, tb0, ta0, ta1, ta2, ta3, ta4, ta5, ta6, ta7, tbb, tii⟩ := id hw
  have hv0 := hI.1
  have hv1 := hI.2.1
  refine lv_aload_n F.x F.cd dX3_draws_0 rfl (lv_at hl 0 rfl) ?_
  refine lv_iload_n F.x F.cd dX3_draws_1 rfl (lv_at hl 1 rfl) ?_
  refine s_callV (As := [.int a]) (rest := []) (C := RX3) (T := TX3) (N := 18) (n := 1) F hW (k_X3_isTank g l σ m A _ _ _ _ a hw ) (t0) rfl q2374 q2376 qs39 q79 q2377 rfl (by decide +kernel) rfl ⟨⟨Nat.le_of_ble_eq_true rfl, Nat.le_of_ble_eq_true rfl⟩, ⟨(Nat.le_of_ble_eq_true rfl), (Nat.le_of_ble_eq_true rfl)⟩⟩ (Nat.le_of_ble_eq_true rfl) hl.1 rfl dX3_draws_2 cX_no (fun r1 σ1 H locs hp1 hW => ?_)
  obtain ⟨rfl, hs1⟩ := hp1
  rw [hs1] at hW
  refine W.eq (g2 := F0 m_ 5 ls (.int (bI (inN a ((ar 0) 0))) :: [])) rfl ?_
  refine b_if_ne (b := (inN a ((ar 0) 0))) (tgt := 10) F dX3_draws_5 (by decide) (fun c_5 => ?_) (fun c_5 => ?_)
  · obtain ⟨i, hi, rfl⟩ := (inN_iff (show ar 0 0 < 2 ^ 30 by omega)).mp c_5
    refine lv_iload_n F.x F.cd dX3_draws_10 rfl (lv_at hl 2 rfl) ?_
    refine lv_iconst (v := (nI 1)) F.x F.cd dX3_draws_11 (by decide) ?_
    refine lv_sipush (v := (nI 999)) F.x F.cd dX3_draws_12 (by decide) ?_
    refine s_callS (As := [.int x, .int (nI 1), .int (nI 999)]) (rest := []) (n := 3) F hW (k_X3_in g l σ x (nI 1) (nI 999)) q2351 q2352 q79 q2353 (by decide +kernel) rfl ⟨⟨Nat.le_of_ble_eq_true rfl, Nat.le_of_ble_eq_true rfl⟩, ⟨(Nat.le_of_ble_eq_true rfl), (Nat.le_of_ble_eq_true rfl)⟩⟩ (Nat.le_of_ble_eq_true rfl) hl.1 rfl dX3_draws_15 cX_no (fun r2 σ2 H locs hp2 hW => ?_)
    obtain ⟨rfl, hs2⟩ := hp2
    rw [hs2] at hW
    refine W.eq (g2 := F0 m_ 18 ls (.int (bI (btw x (nI 1) (nI 999))) :: [])) rfl ?_
    refine b_if_ne (b := (btw x (nI 1) (nI 999))) (tgt := 23) F dX3_draws_18 (by decide) (fun c_18 => ?_) (fun c_18 => ?_)
    · obtain ⟨n, hn1, hn2, rfl⟩ := (btw_iff (by decide) (by decide)).mp c_18
      have hti := hI.tk hi
      refine lv_bipush (v := (nI 6)) F.x F.cd dX3_draws_23 (by decide) ?_
      refine lv_iconst (v := (nI 3)) F.x F.cd dX3_draws_25 (by decide) ?_
      refine lv_iload_n F.x F.cd dX3_draws_26 rfl (lv_at hl 1 rfl) ?_
      refine a_imul (v := (nI (3 * i))) F (pk_mul _ _) dX3_draws_27 ?_
      refine a_iadd (v := (nI (6 + (3 * i)))) F (nI_add _ _) dX3_draws_28 ?_
      refine lv_istore_n (lv' := [(3, .int (nI (6 + (3 * i)))), (0, .ref m), (1, .int (nI i)), (2, .int (nI n))]) F.x F.cd dX3_draws_29 rfl hl (by decide) rfl (fun ls hl => ?_)
      refine lv_aload_n F.x F.cd dX3_draws_30 rfl (lv_at hl 1 rfl) ?_
      refine s_get F hW (ci := 7) (C := RX3) (T := TX3) (N := 18) (v := .ref (A 0)) (t0) rfl in_X3 0 (by decide) q2279 (fun _ h9 => h9) rfl dX3_draws_31 ?_
      refine lv_iload_n F.x F.cd dX3_draws_34 rfl (lv_at hl 0 rfl) ?_
      refine lv_iconst (v := (nI 1)) F.x F.cd dX3_draws_35 (by decide) ?_
      refine a_iadd (v := (nI (6 + (3 * i) + 1))) F (nI_add _ _) dX3_draws_36 ?_
      refine n_iald (i := 6 + (3 * i) + 1) (n := 114) (f := (fun x9 => nI ((ar 0) x9))) (x := (nI (tK (ar 0) i))) F hW (ta0) (by omega) (by omega) (rfl) dX3_draws_37 ?_
      refine lv_iload_n F.x F.cd dX3_draws_38 rfl (lv_at hl 3 rfl) ?_
      refine n_icmp_ge (a := tK (ar 0) i) (b := n) (tgt := 44) F (by omega) (by omega) dX3_draws_39 (by decide) (fun c_39 => ?_) (fun c_39 => ?_)
      · refine lv_aload_n F.x F.cd dX3_draws_44 rfl (lv_at hl 1 rfl) ?_
        refine s_get F hW (ci := 7) (C := RX3) (T := TX3) (N := 18) (v := .ref (A 0)) (t0) rfl in_X3 0 (by decide) q2279 (fun _ h9 => h9) rfl dX3_draws_45 ?_
        refine lv_iload_n F.x F.cd dX3_draws_48 rfl (lv_at hl 0 rfl) ?_
        refine lv_iconst (v := (nI 1)) F.x F.cd dX3_draws_49 (by decide) ?_
        refine a_iadd (v := (nI (6 + (3 * i) + 1))) F (nI_add _ _) dX3_draws_50 ?_
        refine lv_dup2_11 F.x F.cd dX3_draws_51 rfl rfl ?_
        refine n_iald (i := 6 + (3 * i) + 1) (n := 114) (f := (fun x9 => nI ((ar 0) x9))) (x := (nI (tK (ar 0) i))) F hW (ta0) (by omega) (by omega) (rfl) dX3_draws_52 ?_
        refine lv_iload_n F.x F.cd dX3_draws_53 rfl (lv_at hl 3 rfl) ?_
        refine a_isub (v := (nI (tK (ar 0) i - n))) F (pk_sub (by omega)) dX3_draws_54 ?_
        refine n_iastN (i := 6 + (3 * i) + 1) F hW (ta0) (tbb 0 (by decide)) (by omega) (by omega) dX3_draws_55 (fun H locs hW => ?_)
        obtain ⟨σ3, hσ3⟩ : ∃ z, z = sset σ (A 0) (eI g 0 114 (fun x9 => nI ((va_up (ar 0) (6 + (3 * i) + 1) (tK (ar 0) i - n)) x9))) := ⟨_, rfl⟩
        have hW : Hl g σ3 H locs := by rw [hσ3]; exact hW
        have w3 : σ3 (A 0) = some (eI g 0 114 (fun x9 => nI ((va_up (ar 0) (6 + (3 * i) + 1) (tK (ar 0) i - n)) x9))) := by rw [hσ3]; exact sset_eq
        have f4 : σ3 m = some (.inr (7, [.ref (A 0), .ref (A 1), .ref (A 2), .int (iv 3), .ref (A 3), .int (iv 5), .ref (A 4), .ref (A 5), .int (iv 8), .ref (A 6), .int (iv 10), .int (iv 11), .ref wd, .ref (A 7), .int (iv 14), .int (iv 15), .int (iv 16), .int (iv 17)])) := by rw [hσ3, sset_ne (sto_ne ta0 t0 (by simp))]; exact t0
        have f5 : σ3 (A 1) = some (eI g 0 114 (fun x9 => nI ((ar 1) x9))) := by rw [hσ3, sset_ne (fun q9 => absurd (tii 1 0 (by decide) (by decide) q9) (by decide))]; exact ta1
        have f6 : σ3 (A 2) = some (eI g 0 912 (fun x9 => nI ((ar 2) x9))) := by rw [hσ3, sset_ne (fun q9 => absurd (tii 2 0 (by decide) (by decide) q9) (by decide))]; exact ta2
        have f7 : σ3 (A 3) = some (eI g 0 114 (fun x9 => nI ((ar 3) x9))) := by rw [hσ3, sset_ne (fun q9 => absurd (tii 3 0 (by decide) (by decide) q9) (by decide))]; exact ta3
        have f8 : σ3 (A 4) = some (eI g 2 2048 (fun x9 => bI (rb x9))) := by rw [hσ3, sset_ne (fun q9 => absurd (tii 4 0 (by decide) (by decide) q9) (by decide))]; exact ta4
        have f9 : σ3 (A 5) = some (eI g 3 60 (fun x9 => nI ((ar 5) x9))) := by rw [hσ3, sset_ne (fun q9 => absurd (tii 5 0 (by decide) (by decide) q9) (by decide))]; exact ta5
        have f10 : σ3 (A 6) = some (eI g 3 60 (fun x9 => nI ((ar 6) x9))) := by rw [hσ3, sset_ne (fun q9 => absurd (tii 6 0 (by decide) (by decide) q9) (by decide))]; exact ta6
        have f11 : σ3 (A 7) = some (eI g 0 3 (fun x9 => nI ((ar 7) x9))) := by rw [hσ3, sset_ne (fun q9 => absurd (tii 7 0 (by decide) (by decide) q9) (by decide))]; exact ta7
        refine lv_aload_n F.x F.cd dX3_draws_56 rfl (lv_at hl 1 rfl) ?_
        refine s_get F hW (ci := 7) (C := RX3) (T := TX3) (N := 18) (v := .ref (A 0)) (f4) rfl in_X3 0 (by decide) q2279 (fun _ h9 => h9) rfl dX3_draws_57 ?_
        refine lv_iload_n F.x F.cd dX3_draws_60 rfl (lv_at hl 0 rfl) ?_
        refine lv_iconst (v := (nI 1)) F.x F.cd dX3_draws_61 (by decide) ?_
        refine a_iadd (v := (nI (6 + (3 * i) + 1))) F (nI_add _ _) dX3_draws_62 ?_
        refine n_iald (i := 6 + (3 * i) + 1) (n := 114) (f := (fun x9 => nI ((va_up (ar 0) (6 + (3 * i) + 1) (tK (ar 0) i - n)) x9))) (x := (nI (tK (ar 0) i - n))) F hW (w3) (by omega) (by omega) (by show nI _ = nI _; rw [va_up_self]) dX3_draws_63 ?_
        refine n_if_ne (a := tK (ar 0) i - n) (tgt := 76) F (by omega) dX3_draws_64 (by decide) (fun c_64 => ?_) (fun c_64 => ?_)
        · refine lv_aload_n F.x F.cd dX3_draws_76 rfl (lv_at hl 1 rfl) ?_
          refine s_get F hW (ci := 7) (C := RX3) (T := TX3) (N := 18) (v := .ref (A 0)) (f4) rfl in_X3 0 (by decide) q2279 (fun _ h9 => h9) rfl dX3_draws_77 ?_
          refine lv_iconst (v := (nI 4)) F.x F.cd dX3_draws_80 (by decide) ?_
          refine lv_dup2_11 F.x F.cd dX3_draws_81 rfl rfl ?_
          refine n_iald (i := 4) (n := 114) (f := (fun x9 => nI ((va_up (ar 0) (6 + (3 * i) + 1) (tK (ar 0) i - n)) x9))) (x := (nI (ar 0 4))) F hW (w3) (by omega) (by omega) (by show nI _ = nI _; rw [va_up_ne _ _ (by omega)]; try rw [va_up_ne _ _ (by omega)]) dX3_draws_82 ?_
          refine lv_iload_n F.x F.cd dX3_draws_83 rfl (lv_at hl 3 rfl) ?_
          refine a_iadd (v := (nI (ar 0 4 + n))) F (nI_add _ _) dX3_draws_84 ?_
          refine n_iastN (i := 4) F hW (w3) (tbb 0 (by decide)) (by omega) (by omega) dX3_draws_85 (fun H locs hW => ?_)
          obtain ⟨σ12, hσ12⟩ : ∃ z, z = sset σ3 (A 0) (eI g 0 114 (fun x9 => nI ((va_up (va_up (ar 0) (6 + (3 * i) + 1) (tK (ar 0) i - n)) 4 (ar 0 4 + n)) x9))) := ⟨_, rfl⟩
          have hW : Hl g σ12 H locs := by rw [hσ12]; exact hW
          have w12 : σ12 (A 0) = some (eI g 0 114 (fun x9 => nI ((va_up (va_up (ar 0) (6 + (3 * i) + 1) (tK (ar 0) i - n)) 4 (ar 0 4 + n)) x9))) := by rw [hσ12]; exact sset_eq
          have f13 : σ12 m = some (.inr (7, [.ref (A 0), .ref (A 1), .ref (A 2), .int (iv 3), .ref (A 3), .int (iv 5), .ref (A 4), .ref (A 5), .int (iv 8), .ref (A 6), .int (iv 10), .int (iv 11), .ref wd, .ref (A 7), .int (iv 14), .int (iv 15), .int (iv 16), .int (iv 17)])) := by rw [hσ12, sset_ne (sto_ne w3 f4 (by simp))]; exact f4
          have f14 : σ12 (A 1) = some (eI g 0 114 (fun x9 => nI ((ar 1) x9))) := by rw [hσ12, sset_ne (fun q9 => absurd (tii 1 0 (by decide) (by decide) q9) (by decide))]; exact f5
          have f15 : σ12 (A 2) = some (eI g 0 912 (fun x9 => nI ((ar 2) x9))) := by rw [hσ12, sset_ne (fun q9 => absurd (tii 2 0 (by decide) (by decide) q9) (by decide))]; exact f6
          have f16 : σ12 (A 3) = some (eI g 0 114 (fun x9 => nI ((ar 3) x9))) := by rw [hσ12, sset_ne (fun q9 => absurd (tii 3 0 (by decide) (by decide) q9) (by decide))]; exact f7
          have f17 : σ12 (A 4) = some (eI g 2 2048 (fun x9 => bI (rb x9))) := by rw [hσ12, sset_ne (fun q9 => absurd (tii 4 0 (by decide) (by decide) q9) (by decide))]; exact f8
          have f18 : σ12 (A 5) = some (eI g 3 60 (fun x9 => nI ((ar 5) x9))) := by rw [hσ12, sset_ne (fun q9 => absurd (tii 5 0 (by decide) (by decide) q9) (by decide))]; exact f9
          have f19 : σ12 (A 6) = some (eI g 3 60 (fun x9 => nI ((ar 6) x9))) := by rw [hσ12, sset_ne (fun q9 => absurd (tii 6 0 (by decide) (by decide) q9) (by decide))]; exact f10
          have f20 : σ12 (A 7) = some (eI g 0 3 (fun x9 => nI ((ar 7) x9))) := by rw [hσ12, sset_ne (fun q9 => absurd (tii 7 0 (by decide) (by decide) q9) (by decide))]; exact f11
          refine lv_aload_n F.x F.cd dX3_draws_86 rfl (lv_at hl 1 rfl) ?_
          refine lv_aload_n F.x F.cd dX3_draws_87 rfl (lv_at hl 1 rfl) ?_
          refine s_get F hW (ci := 7) (C := RX3) (T := TX3) (N := 18) (v := .ref (A 0)) (f13) rfl in_X3 0 (by decide) q2279 (fun _ h9 => h9) rfl dX3_draws_88 ?_
          refine lv_iload_n F.x F.cd dX3_draws_91 rfl (lv_at hl 0 rfl) ?_
          refine lv_iconst (v := (nI 1)) F.x F.cd dX3_draws_92 (by decide) ?_
          refine a_iadd (v := (nI (6 + (3 * i) + 1))) F (nI_add _ _) dX3_draws_93 ?_
          refine n_iald (i := 6 + (3 * i) + 1) (n := 114) (f := (fun x9 => nI ((va_up (va_up (ar 0) (6 + (3 * i) + 1) (tK (ar 0) i - n)) 4 (ar 0 4 + n)) x9))) (x := (nI (tK (ar 0) i - n))) F hW (w12) (by omega) (by omega) (by show nI _ = nI _; rw [va_up_ne _ _ (by omega)]; first | rw [va_up_self] | rw [va_up_ne _ _ (by omega), va_up_self]) dX3_draws_94 ?_
          have tw21 : IsTw g σ12 m A iv wd (va_up ar 0 (va_up (va_up (ar 0) (6 + (3 * i) + 1) (tK (ar 0) i - n)) 4 (ar 0 4 + n))) rb := ⟨f13, tb0, w12, f14, f15, f16, f17, f18, f19, f20, tbb, tii⟩
          have fm21 : Fm σ σ12 m A := by rw [hσ12, hσ3]; exact ((Fm.refl).setA 0 (by decide)).setA 0 (by decide)
          refine s_callV (As := [.int (nI (tK (ar 0) i - n))]) (rest := []) (C := RX3) (T := TX3) (N := 18) (n := 1) F hW (k_X3_does g l σ12 m A _ _ _ _ (nI (tK (ar 0) i - n)) tw21 ) (f13) rfl q2354 q2356 qs35 q79 q2357 rfl (by decide +kernel) rfl ⟨⟨Nat.le_of_ble_eq_true rfl, Nat.le_of_ble_eq_true rfl⟩, ⟨(Nat.le_of_ble_eq_true rfl), (Nat.le_of_ble_eq_true rfl)⟩⟩ (Nat.le_of_ble_eq_true rfl) hl.1 rfl dX3_draws_95 cX_no (fun r22 σ22 H locs hp22 hW => ?_)
          obtain ⟨rfl, tv22, fv22⟩ := hp22
          refine W.eq (g2 := F0 m_ 98 ls (.int (nI 0) :: [])) rfl ?_
          obtain ⟨t0_23, -, ta0_23, ta1_23, ta2_23, ta3_23, ta4_23, ta5_23, ta6_23, ta7_23, -, -⟩ := id tv22
          have fm_23 : Fm σ σ22 m A := (fm21).trans fv22
          have tw_23 : IsTw g σ22 m A (va_up iv 16 (nI (tK (ar 0) i - n))) wd (va_up ar 0 (va_up (va_up (ar 0) (6 + (3 * i) + 1) (tK (ar 0) i - n)) 4 (ar 0 4 + n))) rb := ⟨t0_23, tb0, ta0_23, ta1_23, ta2_23, ta3_23, ta4_23, ta5_23, ta6_23, ta7_23, tbb, tii⟩
          have tw_24 : IsTw g σ22 m A (va_up iv 16 (nI (tK (ar 0) i - n))) wd (va_up ar 0 (drawV (ar 0) i n)) rb := by
            first | rw [← tw_draw0 (by assumption)] | rw [← tw_draw1 (by assumption)]
            exact ⟨t0_23, tb0, ta0_23, ta1_23, ta2_23, ta3_23, ta4_23, ta5_23, ta6_23, ta7_23, tbb, tii⟩
          obtain ⟨t0_24, -, ta0_24, ta1_24, ta2_24, ta3_24, ta4_24, ta5_24, ta6_24, ta7_24, -, -⟩ := id tw_24
          subst hQ
          exact s_reti (v := (nI 0)) F hW rfl (TC.ok (by rw [drawR, if_pos c_5, if_pos c_18, cl_nI (by omega), cl_nI (by omega), if_pos (by omega)]) tw_24 fm_23) ⟨(Nat.le_of_ble_eq_true rfl), (Nat.le_of_ble_eq_true rfl)⟩ dX3_draws_98
        · refine lv_aload_n F.x F.cd dX3_draws_67 rfl (lv_at hl 1 rfl) ?_
          refine s_get F hW (ci := 7) (C := RX3) (T := TX3) (N := 18) (v := .ref (A 0)) (f4) rfl in_X3 0 (by decide) q2279 (fun _ h9 => h9) rfl dX3_draws_68 ?_
          refine lv_iload_n F.x F.cd dX3_draws_71 rfl (lv_at hl 0 rfl) ?_
          refine lv_iconst (v := (nI 2)) F.x F.cd dX3_draws_72 (by decide) ?_
          refine a_iadd (v := (nI (6 + (3 * i) + 2))) F (nI_add _ _) dX3_draws_73 ?_
          refine lv_iconst (v := (nI 0)) F.x F.cd dX3_draws_74 (by decide) ?_
          refine n_iastN (i := 6 + (3 * i) + 2) F hW (w3) (tbb 0 (by decide)) (by omega) (by omega) dX3_draws_75 (fun H locs hW => ?_)
          obtain ⟨σ25, hσ25⟩ : ∃ z, z = sset σ3 (A 0) (eI g 0 114 (fun x9 => nI ((va_up (va_up (ar 0) (6 + (3 * i) + 1) (tK (ar 0) i - n)) (6 + (3 * i) + 2) 0) x9))) := ⟨_, rfl⟩
          have hW : Hl g σ25 H locs := by rw [hσ25]; exact hW
          have w25 : σ25 (A 0) = some (eI g 0 114 (fun x9 => nI ((va_up (va_up (ar 0) (6 + (3 * i) + 1) (tK (ar 0) i - n)) (6 + (3 * i) + 2) 0) x9))) := by rw [hσ25]; exact sset_eq
          have f26 : σ25 m = some (.inr (7, [.ref (A 0), .ref (A 1), .ref (A 2), .int (iv 3), .ref (A 3), .int (iv 5), .ref (A 4), .ref (A 5), .int (iv 8), .ref (A 6), .int (iv 10), .int (iv 11), .ref wd, .ref (A 7), .int (iv 14), .int (iv 15), .int (iv 16), .int (iv 17)])) := by rw [hσ25, sset_ne (sto_ne w3 f4 (by simp))]; exact f4
          have f27 : σ25 (A 1) = some (eI g 0 114 (fun x9 => nI ((ar 1) x9))) := by rw [hσ25, sset_ne (fun q9 => absurd (tii 1 0 (by decide) (by decide) q9) (by decide))]; exact f5
          have f28 : σ25 (A 2) = some (eI g 0 912 (fun x9 => nI ((ar 2) x9))) := by rw [hσ25, sset_ne (fun q9 => absurd (tii 2 0 (by decide) (by decide) q9) (by decide))]; exact f6
          have f29 : σ25 (A 3) = some (eI g 0 114 (fun x9 => nI ((ar 3) x9))) := by rw [hσ25, sset_ne (fun q9 => absurd (tii 3 0 (by decide) (by decide) q9) (by decide))]; exact f7
          have f30 : σ25 (A 4) = some (eI g 2 2048 (fun x9 => bI (rb x9))) := by rw [hσ25, sset_ne (fun q9 => absurd (tii 4 0 (by decide) (by decide) q9) (by decide))]; exact f8
          have f31 : σ25 (A 5) = some (eI g 3 60 (fun x9 => nI ((ar 5) x9))) := by rw [hσ25, sset_ne (fun q9 => absurd (tii 5 0 (by decide) (by decide) q9) (by decide))]; exact f9
          have f32 : σ25 (A 6) = some (eI g 3 60 (fun x9 => nI ((ar 6) x9))) := by rw [hσ25, sset_ne (fun q9 => absurd (tii 6 0 (by decide) (by decide) q9) (by decide))]; exact f10
          have f33 : σ25 (A 7) = some (eI g 0 3 (fun x9 => nI ((ar 7) x9))) := by rw [hσ25, sset_ne (fun q9 => absurd (tii 7 0 (by decide) (by decide) q9) (by decide))]; exact f11
          refine lv_aload_n F.x F.cd dX3_draws_76 rfl (lv_at hl 1 rfl) ?_
          refine s_get F hW (ci := 7) (C := RX3) (T := TX3) (N := 18) (v := .ref (A 0)) (f26) rfl in_X3 0 (by decide) q2279 (fun _ h9 => h9) rfl dX3_draws_77 ?_
          refine lv_iconst (v := (nI 4)) F.x F.cd dX3_draws_80 (by decide) ?_
          refine lv_dup2_11 F.x F.cd dX3_draws_81 rfl rfl ?_
          refine n_iald (i := 4) (n := 114) (f := (fun x9 => nI ((va_up (va_up (ar 0) (6 + (3 * i) + 1) (tK (ar 0) i - n)) (6 + (3 * i) + 2) 0) x9))) (x := (nI (ar 0 4))) F hW (w25) (by omega) (by omega) (by show nI _ = nI _; rw [va_up_ne _ _ (by omega)]; try rw [va_up_ne _ _ (by omega)]) dX3_draws_82 ?_
          refine lv_iload_n F.x F.cd dX3_draws_83 rfl (lv_at hl 3 rfl) ?_
          refine a_iadd (v := (nI (ar 0 4 + n))) F (nI_add _ _) dX3_draws_84 ?_
          refine n_iastN (i := 4) F hW (w25) (tbb 0 (by decide)) (by omega) (by omega) dX3_draws_85 (fun H locs hW => ?_)
          obtain ⟨σ34, hσ34⟩ : ∃ z, z = sset σ25 (A 0) (eI g 0 114 (fun x9 => nI ((va_up (va_up (va_up (ar 0) (6 + (3 * i) + 1) (tK (ar 0) i - n)) (6 + (3 * i) + 2) 0) 4 (ar 0 4 + n)) x9))) := ⟨_, rfl⟩
          have hW : Hl g σ34 H locs := by rw [hσ34]; exact hW
          have w34 : σ34 (A 0) = some (eI g 0 114 (fun x9 => nI ((va_up (va_up (va_up (ar 0) (6 + (3 * i) + 1) (tK (ar 0) i - n)) (6 + (3 * i) + 2) 0) 4 (ar 0 4 + n)) x9))) := by rw [hσ34]; exact sset_eq
          have f35 : σ34 m = some (.inr (7, [.ref (A 0), .ref (A 1), .ref (A 2), .int (iv 3), .ref (A 3), .int (iv 5), .ref (A 4), .ref (A 5), .int (iv 8), .ref (A 6), .int (iv 10), .int (iv 11), .ref wd, .ref (A 7), .int (iv 14), .int (iv 15), .int (iv 16), .int (iv 17)])) := by rw [hσ34, sset_ne (sto_ne w25 f26 (by simp))]; exact f26
          have f36 : σ34 (A 1) = some (eI g 0 114 (fun x9 => nI ((ar 1) x9))) := by rw [hσ34, sset_ne (fun q9 => absurd (tii 1 0 (by decide) (by decide) q9) (by decide))]; exact f27
          have f37 : σ34 (A 2) = some (eI g 0 912 (fun x9 => nI ((ar 2) x9))) := by rw [hσ34, sset_ne (fun q9 => absurd (tii 2 0 (by decide) (by decide) q9) (by decide))]; exact f28
          have f38 : σ34 (A 3) = some (eI g 0 114 (fun x9 => nI ((ar 3) x9))) := by rw [hσ34, sset_ne (fun q9 => absurd (tii 3 0 (by decide) (by decide) q9) (by decide))]; exact f29
          have f39 : σ34 (A 4) = some (eI g 2 2048 (fun x9 => bI (rb x9))) := by rw [hσ34, sset_ne (fun q9 => absurd (tii 4 0 (by decide) (by decide) q9) (by decide))]; exact f30
          have f40 : σ34 (A 5) = some (eI g 3 60 (fun x9 => nI ((ar 5) x9))) := by rw [hσ34, sset_ne (fun q9 => absurd (tii 5 0 (by decide) (by decide) q9) (by decide))]; exact f31
          have f41 : σ34 (A 6) = some (eI g 3 60 (fun x9 => nI ((ar 6) x9))) := by rw [hσ34, sset_ne (fun q9 => absurd (tii 6 0 (by decide) (by decide) q9) (by decide))]; exact f32
          have f42 : σ34 (A 7) = some (eI g 0 3 (fun x9 => nI ((ar 7) x9))) := by rw [hσ34, sset_ne (fun q9 => absurd (tii 7 0 (by decide) (by decide) q9) (by decide))]; exact f33
          refine lv_aload_n F.x F.cd dX3_draws_86 rfl (lv_at hl 1 rfl) ?_
          refine lv_aload_n F.x F.cd dX3_draws_87 rfl (lv_at hl 1 rfl) ?_
          refine s_get F hW (ci := 7) (C := RX3) (T := TX3) (N := 18) (v := .ref (A 0)) (f35) rfl in_X3 0 (by decide) q2279 (fun _ h9 => h9) rfl dX3_draws_88 ?_
          refine lv_iload_n F.x F.cd dX3_draws_91 rfl (lv_at hl 0 rfl) ?_
          refine lv_iconst (v := (nI 1)) F.x F.cd dX3_draws_92 (by decide) ?_
          refine a_iadd (v := (nI (6 + (3 * i) + 1))) F (nI_add _ _) dX3_draws_93 ?_
          refine n_iald (i := 6 + (3 * i) + 1) (n := 114) (f := (fun x9 => nI ((va_up (va_up (va_up (ar 0) (6 + (3 * i) + 1) (tK (ar 0) i - n)) (6 + (3 * i) + 2) 0) 4 (ar 0 4 + n)) x9))) (x := (nI (tK (ar 0) i - n))) F hW (w34) (by omega) (by omega) (by show nI _ = nI _; rw [va_up_ne _ _ (by omega)]; first | rw [va_up_self] | rw [va_up_ne _ _ (by omega), va_up_self]) dX3_draws_94 ?_
          have tw43 : IsTw g σ34 m A iv wd (va_up ar 0 (va_up (va_up (va_up (ar 0) (6 + (3 * i) + 1) (tK (ar 0) i - n)) (6 + (3 * i) + 2) 0) 4 (ar 0 4 + n))) rb := ⟨f35, tb0, w34, f36, f37, f38, f39, f40, f41, f42, tbb, tii⟩
          have fm43 : Fm σ σ34 m A := by rw [hσ34, hσ25, hσ3]; exact (((Fm.refl).setA 0 (by decide)).setA 0 (by decide)).setA 0 (by decide)
          refine s_callV (As := [.int (nI (tK (ar 0) i - n))]) (rest := []) (C := RX3) (T := TX3) (N := 18) (n := 1) F hW (k_X3_does g l σ34 m A _ _ _ _ (nI (tK (ar 0) i - n)) tw43 ) (f35) rfl q2354 q2356 qs35 q79 q2357 rfl (by decide +kernel) rfl ⟨⟨Nat.le_of_ble_eq_true rfl, Nat.le_of_ble_eq_true rfl⟩, ⟨(Nat.le_of_ble_eq_true rfl), (Nat.le_of_ble_eq_true rfl)⟩⟩ (Nat.le_of_ble_eq_true rfl) hl.1 rfl dX3_draws_95 cX_no (fun r44 σ44 H locs hp44 hW => ?_)
          obtain ⟨rfl, tv44, fv44⟩ := hp44
          refine W.eq (g2 := F0 m_ 98 ls (.int (nI 0) :: [])) rfl ?_
          obtain ⟨t0_45, -, ta0_45, ta1_45, ta2_45, ta3_45, ta4_45, ta5_45, ta6_45, ta7_45, -, -⟩ := id tv44
          have fm_45 : Fm σ σ44 m A := (fm43).trans fv44
          have tw_45 : IsTw g σ44 m A (va_up iv 16 (nI (tK (ar 0) i - n))) wd (va_up ar 0 (va_up (va_up (va_up (ar 0) (6 + (3 * i) + 1) (tK (ar 0) i - n)) (6 + (3 * i) + 2) 0) 4 (ar 0 4 + n))) rb := ⟨t0_45, tb0, ta0_45, ta1_45, ta2_45, ta3_45, ta4_45, ta5_45, ta6_45, ta7_45, tbb, tii⟩
          have tw_46 : IsTw g σ44 m A (va_up iv 16 (nI (tK (ar 0) i - n))) wd (va_up ar 0 (drawV (ar 0) i n)) rb := by
            first | rw [← tw_draw0 (by assumption)] | rw [← tw_draw1 (by assumption)]
            exact ⟨t0_45, tb0, ta0_45, ta1_45, ta2_45, ta3_45, ta4_45, ta5_45, ta6_45, ta7_45, tbb, tii⟩
          obtain ⟨t0_46, -, ta0_46, ta1_46, ta2_46, ta3_46, ta4_46, ta5_46, ta6_46, ta7_46, -, -⟩ := id tw_46
          subst hQ
          exact s_reti (v := (nI 0)) F hW rfl (TC.ok (by rw [drawR, if_pos c_5, if_pos c_18, cl_nI (by omega), cl_nI (by omega), if_pos (by omega)]) tw_46 fm_45) ⟨(Nat.le_of_ble_eq_true rfl), (Nat.le_of_ble_eq_true rfl)⟩ dX3_draws_98
      · refine lv_iconst (v := (nI 3)) F.x F.cd dX3_draws_42 (by decide) ?_
        subst hQ
        exact s_reti (v := (nI 3)) F hW rfl (TC.err "rule" (by rw [drawR, if_pos c_5, if_pos c_18, cl_nI (by omega), cl_nI (by omega), if_neg (by omega)]) (by decide) hw Fm.refl) ⟨(Nat.le_of_ble_eq_true rfl), (Nat.le_of_ble_eq_true rfl)⟩ dX3_draws_43
    · refine lv_iconst (v := (nI 2)) F.x F.cd dX3_draws_21 (by decide) ?_
      subst hQ
      exact s_reti (v := (nI 2)) F hW rfl (TC.err "argument" (by rw [drawR, if_pos c_5, if_neg (by rw [c_18]; decide)]) (by decide) hw Fm.refl) ⟨(Nat.le_of_ble_eq_true rfl), (Nat.le_of_ble_eq_true rfl)⟩ dX3_draws_22
  · refine lv_iconst (v := (nI 1)) F.x F.cd dX3_draws_8 (by decide) ?_
    subst hQ
    exact s_reti (v := (nI 1)) F hW rfl (TC.err "index" (by rw [drawR, if_neg (by rw [c_5]; decide)]) (by decide) hw Fm.refl) ⟨(Nat.le_of_ble_eq_true rfl), (Nat.le_of_ble_eq_true rfl)⟩ dX3_draws_9
set_option maxHeartbeats 4000000 in
theorem k_X3_sets (g : Gh) (l : Launch) (σ : Sto) (m : Nat) (A : Nat → Nat) (iv : Nat → Int32) (wd : Nat) (ar : Nat → Nat → Nat) (rb : Nat → Bool) (x : Int32) (w : Nat) (y : Int32) (mo : Nat) (hw : IsTw g σ m A iv wd ar rb) (hI : Inv (ar 0)) (hw7 : w < 7) (hmo : mo < 256) : Ct g l yX3_sets cX3_sets 6 (some .int) ({ frames := 2, cells := 0, slots := 0, locals := 43 } : Room) [.ref m, .int x, .int (nI w), .int y, .int (nI mo)] σ (fun r σ' => TC g σ m A iv wd ar rb (setsR (ar 0) x w y mo) en3 r σ') (nox) := by
  refine Ct.body (by decide) (Nat.le_of_ble_eq_true rfl) ?_
  intro p_ e_ s_ m_ args_ below_ meth_ c_ ls H locs Q F hW hl hQ
  have hl : lv_has ls 6 [(0, .ref m), (1, .int x), (2, .int (nI w)), (3, .int y), (4, .int (nI mo))] := hl
  obtain ⟨t0, tb0, ta0, ta1, ta2, ta3, ta4, ta5, ta6, ta7, tbb, tii⟩ := id hw
  have hv0 := hI.1
  have hv1 := hI.2.1
  refine lv_aload_n F.x F.cd dX3_sets_0 rfl (lv_at hl 0 rfl) ?_
  refine lv_iload_n F.x F.cd dX3_sets_1 rfl (lv_at hl 1 rfl) ?_
  refine s_callV (As := [.int x]) (rest := []) (C := RX3) (T := TX3) (N := 18) (n := 1) F hW (k_X3_isPipe g l σ m A _ _ _ _ x hw ) (t0) rfl q2402 q2404 qs43 q79 q2405 rfl (by decide +kernel) rfl ⟨⟨Nat.le_of_ble_eq_true rfl, Nat.le_of_ble_eq_true rfl⟩, ⟨(Nat.le_of_ble_eq_true rfl), (Nat.le_of_ble_eq_true rfl)⟩⟩ (Nat.le_of_ble_eq_true rfl) hl.1 rfl dX3_sets_2 cX_no (fun r1 σ1 H locs hp1 hW => ?_)
  obtain ⟨rfl, hs1⟩ := hp1
  rw [hs1] at hW
  refine W.eq (g2 := F0 m_ 5 ls (.int (bI (inN x ((ar 0) 1))) :: [])) rfl ?_
  refine b_if_ne (b := (inN x ((ar 0) 1))) (tgt := 10) F dX3_sets_5 (by decide) (fun c_5 => ?_) (fun c_5 => ?_)
  · obtain ⟨q, hq, rfl⟩ := (inN_iff (show ar 0 1 < 2 ^ 30 by omega)).mp c_5
    refine lv_iload_n F.x F.cd dX3_sets_10 rfl (lv_at hl 3 rfl) ?_
    refine lv_iconst (v := (nI 0)) F.x F.cd dX3_sets_11 (by decide) ?_
    refine lv_iload F.x F.cd dX3_sets_12 (lv_at hl 4 rfl) ?_
    refine s_callS (As := [.int y, .int (nI 0), .int (nI mo)]) (rest := []) (n := 3) F hW (k_X3_in g l σ y (nI 0) (nI mo)) q2351 q2352 q79 q2353 (by decide +kernel) rfl ⟨⟨Nat.le_of_ble_eq_true rfl, Nat.le_of_ble_eq_true rfl⟩, ⟨(Nat.le_of_ble_eq_true rfl), (Nat.le_of_ble_eq_true rfl)⟩⟩ (Nat.le_of_ble_eq_true rfl) hl.1 rfl dX3_sets_14 cX_no (fun r2 σ2 H locs hp2 hW => ?_)
    obtain ⟨rfl, hs2⟩ := hp2
    rw [hs2] at hW
    refine W.eq (g2 := F0 m_ 17 ls (.int (bI (btw y (nI 0) (nI mo))) :: [])) rfl ?_
    refine b_if_ne (b := (btw y (nI 0) (nI mo))) (tgt := 22) F dX3_sets_17 (by decide) (fun c_17 => ?_) (fun c_17 => ?_)
    · obtain ⟨n, hn1, hn2, rfl⟩ := (btw_iff (by decide) (by omega)).mp c_17
      refine lv_aload_n F.x F.cd dX3_sets_22 rfl (lv_at hl 0 rfl) ?_
      refine lv_iload_n F.x F.cd dX3_sets_23 rfl (lv_at hl 1 rfl) ?_
      refine lv_iload_n F.x F.cd dX3_sets_24 rfl (lv_at hl 2 rfl) ?_
      refine s_callV (As := [.int (nI q), .int (nI w)]) (rest := []) (C := RX3) (T := TX3) (N := 18) (n := 2) F hW (k_X3_pipe g l σ m A _ _ _ _ q w hw (by omega) (by omega)) (t0) rfl q2406 q2408 qs44 q79 q2409 rfl (by decide +kernel) rfl ⟨⟨Nat.le_of_ble_eq_true rfl, Nat.le_of_ble_eq_true rfl⟩, ⟨(Nat.le_of_ble_eq_true rfl), (Nat.le_of_ble_eq_true rfl)⟩⟩ (Nat.le_of_ble_eq_true rfl) hl.1 rfl dX3_sets_25 cX_no (fun r3 σ3 H locs hp3 hW => ?_)
      obtain ⟨rfl, hs3⟩ := hp3
      rw [hs3] at hW
      refine W.eq (g2 := F0 m_ 28 ls (.int (nI ((ar 0) (30 + 7 * q + w))) :: [])) rfl ?_
      refine lv_istore (lv' := [(5, .int (nI ((ar 0) (30 + 7 * q + w)))), (0, .ref m), (1, .int (nI q)), (2, .int (nI w)), (3, .int (nI n)), (4, .int (nI mo))]) F.x F.cd dX3_sets_28 hl (by decide) rfl (fun ls hl => ?_)
      refine lv_aload_n F.x F.cd dX3_sets_30 rfl (lv_at hl 1 rfl) ?_
      refine s_get F hW (ci := 7) (C := RX3) (T := TX3) (N := 18) (v := .ref (A 0)) (t0) rfl in_X3 0 (by decide) q2279 (fun _ h9 => h9) rfl dX3_sets_31 ?_
      refine lv_bipush (v := (nI 30)) F.x F.cd dX3_sets_34 (by decide) ?_
      refine lv_bipush (v := (nI 7)) F.x F.cd dX3_sets_36 (by decide) ?_
      refine lv_iload_n F.x F.cd dX3_sets_38 rfl (lv_at hl 2 rfl) ?_
      refine a_imul (v := (nI (7 * q))) F (pk_mul _ _) dX3_sets_39 ?_
      refine a_iadd (v := (nI (30 + (7 * q)))) F (nI_add _ _) dX3_sets_40 ?_
      refine lv_iload_n F.x F.cd dX3_sets_41 rfl (lv_at hl 3 rfl) ?_
      refine a_iadd (v := (nI (30 + (7 * q) + w))) F (nI_add _ _) dX3_sets_42 ?_
      refine lv_iload_n F.x F.cd dX3_sets_43 rfl (lv_at hl 4 rfl) ?_
      refine n_iastN (i := 30 + (7 * q) + w) F hW (ta0) (tbb 0 (by decide)) (by omega) (by omega) dX3_sets_44 (fun H locs hW => ?_)
      obtain ⟨σ4, hσ4⟩ : ∃ z, z = sset σ (A 0) (eI g 0 114 (fun x9 => nI ((va_up (ar 0) (30 + (7 * q) + w) n) x9))) := ⟨_, rfl⟩
      have hW : Hl g σ4 H locs := by rw [hσ4]; exact hW
      have w4 : σ4 (A 0) = some (eI g 0 114 (fun x9 => nI ((va_up (ar 0) (30 + (7 * q) + w) n) x9))) := by rw [hσ4]; exact sset_eq
      have f5 : σ4 m = some (.inr (7, [.ref (A 0), .ref (A 1), .ref (A 2), .int (iv 3), .ref (A 3), .int (iv 5), .ref (A 4), .ref (A 5), .int (iv 8), .ref (A 6), .int (iv 10), .int (iv 11), .ref wd, .ref (A 7), .int (iv 14), .int (iv 15), .int (iv 16), .int (iv 17)])) := by rw [hσ4, sset_ne (sto_ne ta0 t0 (by simp))]; exact t0
      have f6 : σ4 (A 1) = some (eI g 0 114 (fun x9 => nI ((ar 1) x9))) := by rw [hσ4, sset_ne (fun q9 => absurd (tii 1 0 (by decide) (by decide) q9) (by decide))]; exact ta1
      have f7 : σ4 (A 2) = some (eI g 0 912 (fun x9 => nI ((ar 2) x9))) := by rw [hσ4, sset_ne (fun q9 => absurd (tii 2 0 (by decide) (by decide) q9) (by decide))]; exact ta2
      have f8 : σ4 (A 3) = some (eI g 0 114 (fun x9 => nI ((ar 3) x9))) := by rw [hσ4, sset_ne (fun q9 => absurd (tii 3 0 (by decide) (by decide) q9) (by decide))]; exact ta3
      have f9 : σ4 (A 4) = some (eI g 2 2048 (fun x9 => bI (rb x9))) := by rw [hσ4, sset_ne (fun q9 => absurd (tii 4 0 (by decide) (by decide) q9) (by decide))]; exact ta4
      have f10 : σ4 (A 5) = some (eI g 3 60 (fun x9 => nI ((ar 5) x9))) := by rw [hσ4, sset_ne (fun q9 => absurd (tii 5 0 (by decide) (by decide) q9) (by decide))]; exact ta5
      have f11 : σ4 (A 6) = some (eI g 3 60 (fun x9 => nI ((ar 6) x9))) := by rw [hσ4, sset_ne (fun q9 => absurd (tii 6 0 (by decide) (by decide) q9) (by decide))]; exact ta6
      have f12 : σ4 (A 7) = some (eI g 0 3 (fun x9 => nI ((ar 7) x9))) := by rw [hσ4, sset_ne (fun q9 => absurd (tii 7 0 (by decide) (by decide) q9) (by decide))]; exact ta7
      refine lv_aload_n F.x F.cd dX3_sets_45 rfl (lv_at hl 1 rfl) ?_
      refine lv_iload F.x F.cd dX3_sets_46 (lv_at hl 0 rfl) ?_
      have tw13 : IsTw g σ4 m A iv wd (va_up ar 0 (va_up (ar 0) (30 + (7 * q) + w) n)) rb := ⟨f5, tb0, w4, f6, f7, f8, f9, f10, f11, f12, tbb, tii⟩
      have fm13 : Fm σ σ4 m A := by rw [hσ4]; exact (Fm.refl).setA 0 (by decide)
      refine s_callV (As := [.int (nI ((ar 0) (30 + 7 * q + w)))]) (rest := []) (C := RX3) (T := TX3) (N := 18) (n := 1) F hW (k_X3_does g l σ4 m A _ _ _ _ (nI ((ar 0) (30 + 7 * q + w))) tw13 ) (f5) rfl q2354 q2356 qs35 q79 q2357 rfl (by decide +kernel) rfl ⟨⟨Nat.le_of_ble_eq_true rfl, Nat.le_of_ble_eq_true rfl⟩, ⟨(Nat.le_of_ble_eq_true rfl), (Nat.le_of_ble_eq_true rfl)⟩⟩ (Nat.le_of_ble_eq_true rfl) hl.1 rfl dX3_sets_48 cX_no (fun r14 σ14 H locs hp14 hW => ?_)
      obtain ⟨rfl, tv14, fv14⟩ := hp14
      refine W.eq (g2 := F0 m_ 51 ls (.int (nI 0) :: [])) rfl ?_
      obtain ⟨t0_15, -, ta0_15, ta1_15, ta2_15, ta3_15, ta4_15, ta5_15, ta6_15, ta7_15, -, -⟩ := id tv14
      have fm_15 : Fm σ σ14 m A := (fm13).trans fv14
      have tw_15 : IsTw g σ14 m A (va_up iv 16 (nI ((ar 0) (30 + 7 * q + w)))) wd (va_up ar 0 (va_up (ar 0) (30 + (7 * q) + w) n)) rb := ⟨t0_15, tb0, ta0_15, ta1_15, ta2_15, ta3_15, ta4_15, ta5_15, ta6_15, ta7_15, tbb, tii⟩
      subst hQ
      exact s_reti (v := (nI 0)) F hW rfl (TC.ok (by rw [setsR, if_pos c_5, if_pos c_17, cl_nI (by omega), cl_nI (by omega)]) tw_15 fm_15) ⟨(Nat.le_of_ble_eq_true rfl), (Nat.le_of_ble_eq_true rfl)⟩ dX3_sets_51
    · refine lv_iconst (v := (nI 2)) F.x F.cd dX3_sets_20 (by decide) ?_
      subst hQ
      exact s_reti (v := (nI 2)) F hW rfl (TC.err "argument" (by rw [setsR, if_pos c_5, if_neg (by rw [c_17]; decide)]) (by decide) hw Fm.refl) ⟨(Nat.le_of_ble_eq_true rfl), (Nat.le_of_ble_eq_true rfl)⟩ dX3_sets_21
  · refine lv_iconst (v := (nI 1)) F.x F.cd dX3_sets_8 (by decide) ?_
    subst hQ
    exact s_reti (v := (nI 1)) F hW rfl (TC.err "index" (by rw [setsR, if_neg (by rw [c_5]; decide)]) (by decide) hw Fm.refl) ⟨(Nat.le_of_ble_eq_true rfl), (Nat.le_of_ble_eq_true rfl)⟩ dX3_sets_9
set_option maxHeartbeats 4000000 in
theorem k_X3_flows (g : Gh) (l : Launch) (σ : Sto) (m : Nat) (A : Nat → Nat) (iv : Nat → Int32) (wd : Nat) (ar : Nat → Nat → Nat) (rb : Nat → Bool) (q : Nat) (hw : IsTw g σ m A iv wd ar rb) (hI : Inv (ar 0)) (hq : q < ar 0 1) : Ct g l yX3_flows cX3_flows 7 (some .int) ({ frames := 2, cells := 0, slots := 0, locals := 43 } : Room) [.ref m, .int (nI q)] σ (fun r σ' => r = some (.int (lits (ar 0) q)) ∧ σ' = σ) (nox) := by
  refine Ct.body (by decide) (Nat.le_of_ble_eq_true rfl) ?_
  intro p_ e_ s_ m_ args_ below_ meth_ c_ ls H locs Q F hW hl hQ
  have hl : lv_has ls 7 [(0, .ref m), (1, .int (nI q))] := hl
  obtain ⟨t0, tb0, ta0, ta1, ta2, ta3, ta4, ta5, ta6, ta7, tbb, tii⟩ := id hw
  have hv0 := hI.1
  have hv1 := hI.2.1
  obtain ⟨hqa, hqb, hqab, hqm, hqv, hqr, hqd⟩ := hI.pp hq
  refine lv_aload_n F.x F.cd dX3_flows_0 rfl (lv_at hl 0 rfl) ?_
  refine lv_iload_n F.x F.cd dX3_flows_1 rfl (lv_at hl 1 rfl) ?_
  refine s_callV (As := [.int (nI q)]) (rest := []) (C := RX3) (T := TX3) (N := 18) (n := 1) F hW (k_X3_goes g l σ m A _ _ _ _ q hw hI (by omega)) (t0) rfl q2434 q2436 qs48 q79 q2437 rfl (by decide +kernel) rfl ⟨⟨Nat.le_of_ble_eq_true rfl, Nat.le_of_ble_eq_true rfl⟩, ⟨(Nat.le_of_ble_eq_true rfl), (Nat.le_of_ble_eq_true rfl)⟩⟩ (Nat.le_of_ble_eq_true rfl) hl.1 rfl dX3_flows_2 cX_no (fun r1 σ1 H locs hp1 hW => ?_)
  obtain ⟨rfl, hs1⟩ := hp1
  rw [hs1] at hW
  refine W.eq (g2 := F0 m_ 5 ls (.int (bI (opv (ar 0) q)) :: [])) rfl ?_
  refine b_if_ne (b := (opv (ar 0) q)) (tgt := 10) F dX3_flows_5 (by decide) (fun c_5 => ?_) (fun c_5 => ?_)
  · refine lv_aload_n F.x F.cd dX3_flows_10 rfl (lv_at hl 0 rfl) ?_
    refine lv_iload_n F.x F.cd dX3_flows_11 rfl (lv_at hl 1 rfl) ?_
    refine lv_iconst (v := (nI 0)) F.x F.cd dX3_flows_12 (by decide) ?_
    refine s_callV (As := [.int (nI q), .int (nI 0)]) (rest := []) (C := RX3) (T := TX3) (N := 18) (n := 2) F hW (k_X3_pipe g l σ m A _ _ _ _ q 0 hw (by omega) (by omega)) (t0) rfl q2406 q2408 qs44 q79 q2409 rfl (by decide +kernel) rfl ⟨⟨Nat.le_of_ble_eq_true rfl, Nat.le_of_ble_eq_true rfl⟩, ⟨(Nat.le_of_ble_eq_true rfl), (Nat.le_of_ble_eq_true rfl)⟩⟩ (Nat.le_of_ble_eq_true rfl) hl.1 rfl dX3_flows_13 cX_no (fun r2 σ2 H locs hp2 hW => ?_)
    obtain ⟨rfl, hs2⟩ := hp2
    rw [hs2] at hW
    refine W.eq (g2 := F0 m_ 16 ls (.int (nI (pA (ar 0) q)) :: [])) rfl ?_
    refine lv_istore_n (lv' := [(2, .int (nI (pA (ar 0) q))), (0, .ref m), (1, .int (nI q))]) F.x F.cd dX3_flows_16 rfl hl (by decide) rfl (fun ls hl => ?_)
    refine lv_aload_n F.x F.cd dX3_flows_17 rfl (lv_at hl 1 rfl) ?_
    refine lv_iload_n F.x F.cd dX3_flows_18 rfl (lv_at hl 2 rfl) ?_
    refine lv_iconst (v := (nI 1)) F.x F.cd dX3_flows_19 (by decide) ?_
    refine s_callV (As := [.int (nI q), .int (nI 1)]) (rest := []) (C := RX3) (T := TX3) (N := 18) (n := 2) F hW (k_X3_pipe g l σ m A _ _ _ _ q 1 hw (by omega) (by omega)) (t0) rfl q2406 q2408 qs44 q79 q2409 rfl (by decide +kernel) rfl ⟨⟨Nat.le_of_ble_eq_true rfl, Nat.le_of_ble_eq_true rfl⟩, ⟨(Nat.le_of_ble_eq_true rfl), (Nat.le_of_ble_eq_true rfl)⟩⟩ (Nat.le_of_ble_eq_true rfl) hl.1 rfl dX3_flows_20 cX_no (fun r3 σ3 H locs hp3 hW => ?_)
    obtain ⟨rfl, hs3⟩ := hp3
    rw [hs3] at hW
    refine W.eq (g2 := F0 m_ 23 ls (.int (nI (pB (ar 0) q)) :: [])) rfl ?_
    refine lv_istore_n (lv' := [(3, .int (nI (pB (ar 0) q))), (2, .int (nI (pA (ar 0) q))), (0, .ref m), (1, .int (nI q))]) F.x F.cd dX3_flows_23 rfl hl (by decide) rfl (fun ls hl => ?_)
    obtain ⟨hac, hac2, hak, hai⟩ := hI.tk hqa
    obtain ⟨hbc, hbc2, hbk, hbi⟩ := hI.tk hqb
    refine lv_aload_n F.x F.cd dX3_flows_24 rfl (lv_at hl 2 rfl) ?_
    refine lv_iload_n F.x F.cd dX3_flows_25 rfl (lv_at hl 1 rfl) ?_
    refine lv_iconst (v := (nI 1)) F.x F.cd dX3_flows_26 (by decide) ?_
    refine s_callV (As := [.int (nI (pA (ar 0) q)), .int (nI 1)]) (rest := []) (C := RX3) (T := TX3) (N := 18) (n := 2) F hW (k_X3_tank g l σ m A _ _ _ _ (pA (ar 0) q) 1 hw (by omega) (by omega)) (t0) rfl q2438 q2440 qs49 q79 q2441 rfl (by decide +kernel) rfl ⟨⟨Nat.le_of_ble_eq_true rfl, Nat.le_of_ble_eq_true rfl⟩, ⟨(Nat.le_of_ble_eq_true rfl), (Nat.le_of_ble_eq_true rfl)⟩⟩ (Nat.le_of_ble_eq_true rfl) hl.1 rfl dX3_flows_27 cX_no (fun r4 σ4 H locs hp4 hW => ?_)
    obtain ⟨rfl, hs4⟩ := hp4
    rw [hs4] at hW
    refine W.eq (g2 := F0 m_ 30 ls (.int (nI (tK (ar 0) (pA (ar 0) q))) :: [])) rfl ?_
    refine lv_aload_n F.x F.cd dX3_flows_30 rfl (lv_at hl 2 rfl) ?_
    refine lv_iload_n F.x F.cd dX3_flows_31 rfl (lv_at hl 0 rfl) ?_
    refine lv_iconst (v := (nI 1)) F.x F.cd dX3_flows_32 (by decide) ?_
    refine s_callV (As := [.int (nI (pB (ar 0) q)), .int (nI 1)]) (rest := [.int (nI (tK (ar 0) (pA (ar 0) q)))]) (C := RX3) (T := TX3) (N := 18) (n := 2) F hW (k_X3_tank g l σ m A _ _ _ _ (pB (ar 0) q) 1 hw (by omega) (by omega)) (t0) rfl q2438 q2440 qs49 q79 q2441 rfl (by decide +kernel) rfl ⟨⟨Nat.le_of_ble_eq_true rfl, Nat.le_of_ble_eq_true rfl⟩, ⟨(Nat.le_of_ble_eq_true rfl), (Nat.le_of_ble_eq_true rfl)⟩⟩ (Nat.le_of_ble_eq_true rfl) hl.1 rfl dX3_flows_33 cX_no (fun r5 σ5 H locs hp5 hW => ?_)
    obtain ⟨rfl, hs5⟩ := hp5
    rw [hs5] at hW
    refine W.eq (g2 := F0 m_ 36 ls (.int (nI (tK (ar 0) (pB (ar 0) q))) :: .int (nI (tK (ar 0) (pA (ar 0) q))) :: [])) rfl ?_
    refine a_isub (v := (nI (tK (ar 0) (pA (ar 0) q)) - nI (tK (ar 0) (pB (ar 0) q)))) F (rfl) dX3_flows_36 ?_
    refine lv_istore (lv' := [(4, .int (nI (tK (ar 0) (pA (ar 0) q)) - nI (tK (ar 0) (pB (ar 0) q)))), (3, .int (nI (pB (ar 0) q))), (2, .int (nI (pA (ar 0) q))), (0, .ref m), (1, .int (nI q))]) F.x F.cd dX3_flows_37 hl (by decide) rfl (fun ls hl => ?_)
    refine lv_iload F.x F.cd dX3_flows_39 (lv_at hl 0 rfl) ?_
    by_cases hf : tK (ar 0) (pB (ar 0) q) < tK (ar 0) (pA (ar 0) q)
    · have hcp := nsub_pos (a := tK (ar 0) (pA (ar 0) q)) (b := tK (ar 0) (pB (ar 0) q)) (by omega) (by omega)
      refine lv_if_le (x := (nI (tK (ar 0) (pA (ar 0) q)) - nI (tK (ar 0) (pB (ar 0) q)))) (tgt := 48) F.x F.cd dX3_flows_41 (by decide) (fun c_41 => ?_) (fun c_41 => ?_)
      · exact absurd c_41 (Int32.not_le.mpr (hcp.mpr hf))
      · refine lv_iload_n F.x F.cd dX3_flows_44 rfl (lv_at hl 1 rfl) ?_
        refine lv_goto (tgt := 49) F.x F.cd dX3_flows_45 (by decide) ?_
        refine lv_istore (lv' := [(5, .int (nI (pB (ar 0) q))), (4, .int (nI (tK (ar 0) (pA (ar 0) q)) - nI (tK (ar 0) (pB (ar 0) q)))), (3, .int (nI (pB (ar 0) q))), (2, .int (nI (pA (ar 0) q))), (0, .ref m), (1, .int (nI q))]) F.x F.cd dX3_flows_49 hl (by decide) rfl (fun ls hl => ?_)
        refine lv_iconst (v := (nI 5)) F.x F.cd dX3_flows_51 (by decide) ?_
        refine lv_aload_n F.x F.cd dX3_flows_52 rfl (lv_at hl 4 rfl) ?_
        refine lv_iload_n F.x F.cd dX3_flows_53 rfl (lv_at hl 5 rfl) ?_
        refine lv_iconst (v := (nI 3)) F.x F.cd dX3_flows_54 (by decide) ?_
        refine s_callV (As := [.int (nI q), .int (nI 3)]) (rest := [.int (nI 5)]) (C := RX3) (T := TX3) (N := 18) (n := 2) F hW (k_X3_pipe g l σ m A _ _ _ _ q 3 hw (by omega) (by omega)) (t0) rfl q2406 q2408 qs44 q79 q2409 rfl (by decide +kernel) rfl ⟨⟨Nat.le_of_ble_eq_true rfl, Nat.le_of_ble_eq_true rfl⟩, ⟨(Nat.le_of_ble_eq_true rfl), (Nat.le_of_ble_eq_true rfl)⟩⟩ (Nat.le_of_ble_eq_true rfl) hl.1 rfl dX3_flows_55 cX_no (fun r6 σ6 H locs hp6 hW => ?_)
        obtain ⟨rfl, hs6⟩ := hp6
        rw [hs6] at hW
        refine W.eq (g2 := F0 m_ 58 ls (.int (nI (pV (ar 0) q)) :: .int (nI 5) :: [])) rfl ?_
        refine a_imul (v := (nI (5 * pV (ar 0) q))) F (pk_mul _ _) dX3_flows_58 ?_
        refine lv_iload F.x F.cd dX3_flows_59 (lv_at hl 1 rfl) ?_
        refine s_mabs (v := (nI (tK (ar 0) (pA (ar 0) q) - tK (ar 0) (pB (ar 0) q)))) F q2442 q2443 q87 q2444 hl.1 (Nat.le_of_ble_eq_true rfl) (Nat.le_of_ble_eq_true rfl) (Nat.le_of_ble_eq_true rfl) (Nat.le_of_ble_eq_true rfl) (n_absf (by omega) (by omega) hf) dX3_flows_61 ?_
        refine lv_iconst (v := (nI 2)) F.x F.cd dX3_flows_64 (by decide) ?_
        refine a_idiv (v := (nI ((tK (ar 0) (pA (ar 0) q) - tK (ar 0) (pB (ar 0) q)) / 2))) F (pk_div (by omega) (by omega) (by omega)) (by decide) dX3_flows_65 ?_
        refine lv_aload_n F.x F.cd dX3_flows_66 rfl (lv_at hl 4 rfl) ?_
        refine lv_iload F.x F.cd dX3_flows_67 (lv_at hl 0 rfl) ?_
        refine lv_iconst (v := (nI 0)) F.x F.cd dX3_flows_69 (by decide) ?_
        refine s_callV (As := [.int (nI (pB (ar 0) q)), .int (nI 0)]) (rest := [.int (nI ((tK (ar 0) (pA (ar 0) q) - tK (ar 0) (pB (ar 0) q)) / 2)), .int (nI (5 * pV (ar 0) q))]) (C := RX3) (T := TX3) (N := 18) (n := 2) F hW (k_X3_tank g l σ m A _ _ _ _ (pB (ar 0) q) 0 hw (by omega) (by omega)) (t0) rfl q2438 q2440 qs49 q79 q2441 rfl (by decide +kernel) rfl ⟨⟨Nat.le_of_ble_eq_true rfl, Nat.le_of_ble_eq_true rfl⟩, ⟨(Nat.le_of_ble_eq_true rfl), (Nat.le_of_ble_eq_true rfl)⟩⟩ (Nat.le_of_ble_eq_true rfl) hl.1 rfl dX3_flows_70 cX_no (fun r7 σ7 H locs hp7 hW => ?_)
        obtain ⟨rfl, hs7⟩ := hp7
        rw [hs7] at hW
        refine W.eq (g2 := F0 m_ 73 ls (.int (nI (tC (ar 0) (pB (ar 0) q))) :: .int (nI ((tK (ar 0) (pA (ar 0) q) - tK (ar 0) (pB (ar 0) q)) / 2)) :: .int (nI (5 * pV (ar 0) q)) :: [])) rfl ?_
        refine lv_aload_n F.x F.cd dX3_flows_73 rfl (lv_at hl 4 rfl) ?_
        refine lv_iload F.x F.cd dX3_flows_74 (lv_at hl 0 rfl) ?_
        refine lv_iconst (v := (nI 1)) F.x F.cd dX3_flows_76 (by decide) ?_
        refine s_callV (As := [.int (nI (pB (ar 0) q)), .int (nI 1)]) (rest := [.int (nI (tC (ar 0) (pB (ar 0) q))), .int (nI ((tK (ar 0) (pA (ar 0) q) - tK (ar 0) (pB (ar 0) q)) / 2)), .int (nI (5 * pV (ar 0) q))]) (C := RX3) (T := TX3) (N := 18) (n := 2) F hW (k_X3_tank g l σ m A _ _ _ _ (pB (ar 0) q) 1 hw (by omega) (by omega)) (t0) rfl q2438 q2440 qs49 q79 q2441 rfl (by decide +kernel) rfl ⟨⟨Nat.le_of_ble_eq_true rfl, Nat.le_of_ble_eq_true rfl⟩, ⟨(Nat.le_of_ble_eq_true rfl), (Nat.le_of_ble_eq_true rfl)⟩⟩ (Nat.le_of_ble_eq_true rfl) hl.1 rfl dX3_flows_77 cX_no (fun r8 σ8 H locs hp8 hW => ?_)
        obtain ⟨rfl, hs8⟩ := hp8
        rw [hs8] at hW
        refine W.eq (g2 := F0 m_ 80 ls (.int (nI (tK (ar 0) (pB (ar 0) q))) :: .int (nI (tC (ar 0) (pB (ar 0) q))) :: .int (nI ((tK (ar 0) (pA (ar 0) q) - tK (ar 0) (pB (ar 0) q)) / 2)) :: .int (nI (5 * pV (ar 0) q)) :: [])) rfl ?_
        refine a_isub (v := (nI ((tC (ar 0) (pB (ar 0) q)) - (tK (ar 0) (pB (ar 0) q))))) F (pk_sub (by omega)) dX3_flows_80 ?_
        refine s_mmin (v := (nI (min ((tK (ar 0) (pA (ar 0) q) - tK (ar 0) (pB (ar 0) q)) / 2) ((tC (ar 0) (pB (ar 0) q)) - (tK (ar 0) (pB (ar 0) q)))))) F q2445 q453 q87 q454 hl.1 (Nat.le_of_ble_eq_true rfl) (Nat.le_of_ble_eq_true rfl) (Nat.le_of_ble_eq_true rfl) (Nat.le_of_ble_eq_true rfl) (nI_min (by omega) (by omega)) dX3_flows_81 ?_
        refine s_mmin (v := (nI (min (5 * pV (ar 0) q) (min ((tK (ar 0) (pA (ar 0) q) - tK (ar 0) (pB (ar 0) q)) / 2) ((tC (ar 0) (pB (ar 0) q)) - (tK (ar 0) (pB (ar 0) q))))))) F q2445 q453 q87 q454 hl.1 (Nat.le_of_ble_eq_true rfl) (Nat.le_of_ble_eq_true rfl) (Nat.le_of_ble_eq_true rfl) (Nat.le_of_ble_eq_true rfl) (nI_min (by omega) (by omega)) dX3_flows_84 ?_
        refine lv_istore (lv' := [(6, .int (nI (min (5 * pV (ar 0) q) (min ((tK (ar 0) (pA (ar 0) q) - tK (ar 0) (pB (ar 0) q)) / 2) ((tC (ar 0) (pB (ar 0) q)) - (tK (ar 0) (pB (ar 0) q))))))), (5, .int (nI (pB (ar 0) q))), (4, .int (nI (tK (ar 0) (pA (ar 0) q)) - nI (tK (ar 0) (pB (ar 0) q)))), (3, .int (nI (pB (ar 0) q))), (2, .int (nI (pA (ar 0) q))), (0, .ref m), (1, .int (nI q))]) F.x F.cd dX3_flows_87 hl (by decide) rfl (fun ls hl => ?_)
        refine lv_iload F.x F.cd dX3_flows_89 (lv_at hl 2 rfl) ?_
        refine lv_if_le (x := (nI (tK (ar 0) (pA (ar 0) q)) - nI (tK (ar 0) (pB (ar 0) q)))) (tgt := 99) F.x F.cd dX3_flows_91 (by decide) (fun c_91 => ?_) (fun c_91 => ?_)
        · exact absurd c_91 (Int32.not_le.mpr (hcp.mpr hf))
        · refine lv_iload F.x F.cd dX3_flows_94 (lv_at hl 0 rfl) ?_
          refine lv_goto (tgt := 102) F.x F.cd dX3_flows_96 (by decide) ?_
          subst hQ
          exact s_reti (v := (nI (min (5 * pV (ar 0) q) (min ((tK (ar 0) (pA (ar 0) q) - tK (ar 0) (pB (ar 0) q)) / 2) ((tC (ar 0) (pB (ar 0) q)) - (tK (ar 0) (pB (ar 0) q))))))) F hW rfl (⟨by rw [lits, if_pos hf, lit_f c_5 hf], rfl⟩) ⟨(Nat.le_of_ble_eq_true rfl), (Nat.le_of_ble_eq_true rfl)⟩ dX3_flows_102
    · have hcp := nsub_pos (a := tK (ar 0) (pA (ar 0) q)) (b := tK (ar 0) (pB (ar 0) q)) (by omega) (by omega)
      refine lv_if_le (x := (nI (tK (ar 0) (pA (ar 0) q)) - nI (tK (ar 0) (pB (ar 0) q)))) (tgt := 48) F.x F.cd dX3_flows_41 (by decide) (fun c_41 => ?_) (fun c_41 => ?_)
      · refine lv_iload_n F.x F.cd dX3_flows_48 rfl (lv_at hl 2 rfl) ?_
        refine lv_istore (lv' := [(5, .int (nI (pA (ar 0) q))), (4, .int (nI (tK (ar 0) (pA (ar 0) q)) - nI (tK (ar 0) (pB (ar 0) q)))), (3, .int (nI (pB (ar 0) q))), (2, .int (nI (pA (ar 0) q))), (0, .ref m), (1, .int (nI q))]) F.x F.cd dX3_flows_49 hl (by decide) rfl (fun ls hl => ?_)
        refine lv_iconst (v := (nI 5)) F.x F.cd dX3_flows_51 (by decide) ?_
        refine lv_aload_n F.x F.cd dX3_flows_52 rfl (lv_at hl 4 rfl) ?_
        refine lv_iload_n F.x F.cd dX3_flows_53 rfl (lv_at hl 5 rfl) ?_
        refine lv_iconst (v := (nI 3)) F.x F.cd dX3_flows_54 (by decide) ?_
        refine s_callV (As := [.int (nI q), .int (nI 3)]) (rest := [.int (nI 5)]) (C := RX3) (T := TX3) (N := 18) (n := 2) F hW (k_X3_pipe g l σ m A _ _ _ _ q 3 hw (by omega) (by omega)) (t0) rfl q2406 q2408 qs44 q79 q2409 rfl (by decide +kernel) rfl ⟨⟨Nat.le_of_ble_eq_true rfl, Nat.le_of_ble_eq_true rfl⟩, ⟨(Nat.le_of_ble_eq_true rfl), (Nat.le_of_ble_eq_true rfl)⟩⟩ (Nat.le_of_ble_eq_true rfl) hl.1 rfl dX3_flows_55 cX_no (fun r9 σ9 H locs hp9 hW => ?_)
        obtain ⟨rfl, hs9⟩ := hp9
        rw [hs9] at hW
        refine W.eq (g2 := F0 m_ 58 ls (.int (nI (pV (ar 0) q)) :: .int (nI 5) :: [])) rfl ?_
        refine a_imul (v := (nI (5 * pV (ar 0) q))) F (pk_mul _ _) dX3_flows_58 ?_
        refine lv_iload F.x F.cd dX3_flows_59 (lv_at hl 1 rfl) ?_
        refine s_mabs (v := (nI (tK (ar 0) (pB (ar 0) q) - tK (ar 0) (pA (ar 0) q)))) F q2442 q2443 q87 q2444 hl.1 (Nat.le_of_ble_eq_true rfl) (Nat.le_of_ble_eq_true rfl) (Nat.le_of_ble_eq_true rfl) (Nat.le_of_ble_eq_true rfl) (n_absb (by omega) (by omega) hf) dX3_flows_61 ?_
        refine lv_iconst (v := (nI 2)) F.x F.cd dX3_flows_64 (by decide) ?_
        refine a_idiv (v := (nI ((tK (ar 0) (pB (ar 0) q) - tK (ar 0) (pA (ar 0) q)) / 2))) F (pk_div (by omega) (by omega) (by omega)) (by decide) dX3_flows_65 ?_
        refine lv_aload_n F.x F.cd dX3_flows_66 rfl (lv_at hl 4 rfl) ?_
        refine lv_iload F.x F.cd dX3_flows_67 (lv_at hl 0 rfl) ?_
        refine lv_iconst (v := (nI 0)) F.x F.cd dX3_flows_69 (by decide) ?_
        refine s_callV (As := [.int (nI (pA (ar 0) q)), .int (nI 0)]) (rest := [.int (nI ((tK (ar 0) (pB (ar 0) q) - tK (ar 0) (pA (ar 0) q)) / 2)), .int (nI (5 * pV (ar 0) q))]) (C := RX3) (T := TX3) (N := 18) (n := 2) F hW (k_X3_tank g l σ m A _ _ _ _ (pA (ar 0) q) 0 hw (by omega) (by omega)) (t0) rfl q2438 q2440 qs49 q79 q2441 rfl (by decide +kernel) rfl ⟨⟨Nat.le_of_ble_eq_true rfl, Nat.le_of_ble_eq_true rfl⟩, ⟨(Nat.le_of_ble_eq_true rfl), (Nat.le_of_ble_eq_true rfl)⟩⟩ (Nat.le_of_ble_eq_true rfl) hl.1 rfl dX3_flows_70 cX_no (fun r10 σ10 H locs hp10 hW => ?_)
        obtain ⟨rfl, hs10⟩ := hp10
        rw [hs10] at hW
        refine W.eq (g2 := F0 m_ 73 ls (.int (nI (tC (ar 0) (pA (ar 0) q))) :: .int (nI ((tK (ar 0) (pB (ar 0) q) - tK (ar 0) (pA (ar 0) q)) / 2)) :: .int (nI (5 * pV (ar 0) q)) :: [])) rfl ?_
        refine lv_aload_n F.x F.cd dX3_flows_73 rfl (lv_at hl 4 rfl) ?_
        refine lv_iload F.x F.cd dX3_flows_74 (lv_at hl 0 rfl) ?_
        refine lv_iconst (v := (nI 1)) F.x F.cd dX3_flows_76 (by decide) ?_
        refine s_callV (As := [.int (nI (pA (ar 0) q)), .int (nI 1)]) (rest := [.int (nI (tC (ar 0) (pA (ar 0) q))), .int (nI ((tK (ar 0) (pB (ar 0) q) - tK (ar 0) (pA (ar 0) q)) / 2)), .int (nI (5 * pV (ar 0) q))]) (C := RX3) (T := TX3) (N := 18) (n := 2) F hW (k_X3_tank g l σ m A _ _ _ _ (pA (ar 0) q) 1 hw (by omega) (by omega)) (t0) rfl q2438 q2440 qs49 q79 q2441 rfl (by decide +kernel) rfl ⟨⟨Nat.le_of_ble_eq_true rfl, Nat.le_of_ble_eq_true rfl⟩, ⟨(Nat.le_of_ble_eq_true rfl), (Nat.le_of_ble_eq_true rfl)⟩⟩ (Nat.le_of_ble_eq_true rfl) hl.1 rfl dX3_flows_77 cX_no (fun r11 σ11 H locs hp11 hW => ?_)
        obtain ⟨rfl, hs11⟩ := hp11
        rw [hs11] at hW
        refine W.eq (g2 := F0 m_ 80 ls (.int (nI (tK (ar 0) (pA (ar 0) q))) :: .int (nI (tC (ar 0) (pA (ar 0) q))) :: .int (nI ((tK (ar 0) (pB (ar 0) q) - tK (ar 0) (pA (ar 0) q)) / 2)) :: .int (nI (5 * pV (ar 0) q)) :: [])) rfl ?_
        refine a_isub (v := (nI ((tC (ar 0) (pA (ar 0) q)) - (tK (ar 0) (pA (ar 0) q))))) F (pk_sub (by omega)) dX3_flows_80 ?_
        refine s_mmin (v := (nI (min ((tK (ar 0) (pB (ar 0) q) - tK (ar 0) (pA (ar 0) q)) / 2) ((tC (ar 0) (pA (ar 0) q)) - (tK (ar 0) (pA (ar 0) q)))))) F q2445 q453 q87 q454 hl.1 (Nat.le_of_ble_eq_true rfl) (Nat.le_of_ble_eq_true rfl) (Nat.le_of_ble_eq_true rfl) (Nat.le_of_ble_eq_true rfl) (nI_min (by omega) (by omega)) dX3_flows_81 ?_
        refine s_mmin (v := (nI (min (5 * pV (ar 0) q) (min ((tK (ar 0) (pB (ar 0) q) - tK (ar 0) (pA (ar 0) q)) / 2) ((tC (ar 0) (pA (ar 0) q)) - (tK (ar 0) (pA (ar 0) q))))))) F q2445 q453 q87 q454 hl.1 (Nat.le_of_ble_eq_true rfl) (Nat.le_of_ble_eq_true rfl) (Nat.le_of_ble_eq_true rfl) (Nat.le_of_ble_eq_true rfl) (nI_min (by omega) (by omega)) dX3_flows_84 ?_
        refine lv_istore (lv' := [(6, .int (nI (min (5 * pV (ar 0) q) (min ((tK (ar 0) (pB (ar 0) q) - tK (ar 0) (pA (ar 0) q)) / 2) ((tC (ar 0) (pA (ar 0) q)) - (tK (ar 0) (pA (ar 0) q))))))), (5, .int (nI (pA (ar 0) q))), (4, .int (nI (tK (ar 0) (pA (ar 0) q)) - nI (tK (ar 0) (pB (ar 0) q)))), (3, .int (nI (pB (ar 0) q))), (2, .int (nI (pA (ar 0) q))), (0, .ref m), (1, .int (nI q))]) F.x F.cd dX3_flows_87 hl (by decide) rfl (fun ls hl => ?_)
        refine lv_iload F.x F.cd dX3_flows_89 (lv_at hl 2 rfl) ?_
        refine lv_if_le (x := (nI (tK (ar 0) (pA (ar 0) q)) - nI (tK (ar 0) (pB (ar 0) q)))) (tgt := 99) F.x F.cd dX3_flows_91 (by decide) (fun c_91 => ?_) (fun c_91 => ?_)
        · refine lv_iload F.x F.cd dX3_flows_99 (lv_at hl 0 rfl) ?_
          refine a_ineg (v := (-(nI (min (5 * pV (ar 0) q) (min ((tK (ar 0) (pB (ar 0) q) - tK (ar 0) (pA (ar 0) q)) / 2) ((tC (ar 0) (pA (ar 0) q)) - (tK (ar 0) (pA (ar 0) q)))))))) F rfl dX3_flows_101 ?_
          subst hQ
          exact s_reti (v := (-(nI (min (5 * pV (ar 0) q) (min ((tK (ar 0) (pB (ar 0) q) - tK (ar 0) (pA (ar 0) q)) / 2) ((tC (ar 0) (pA (ar 0) q)) - (tK (ar 0) (pA (ar 0) q)))))))) F hW rfl (⟨by rw [lits, if_neg hf, lit_b c_5 hf], rfl⟩) ⟨(Nat.le_of_ble_eq_true rfl), (Nat.le_of_ble_eq_true rfl)⟩ dX3_flows_102
        · exact absurd (hcp.mp (Int32.not_le.mp c_91)) hf
      · exact absurd (hcp.mp (Int32.not_le.mp c_41)) hf
  · refine lv_iconst (v := (nI 0)) F.x F.cd dX3_flows_8 (by decide) ?_
    subst hQ
    exact s_reti (v := (nI 0)) F hW rfl (⟨by rw [lits_nil c_5], rfl⟩) ⟨(Nat.le_of_ble_eq_true rfl), (Nat.le_of_ble_eq_true rfl)⟩ dX3_flows_9
