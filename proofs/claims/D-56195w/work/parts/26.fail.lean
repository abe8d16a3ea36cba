/-! ===== the failures, made ===== -/
set_option maxRecDepth 100000
theorem narrow_refV (t : FieldType) (u : RefV) : narrow t u.v = u.v := by
  obtain ⟨v, hv⟩ := u
  cases v with
  | null => cases t <;> rfl
  | ref a => exact narrow_ref t a
  | _ => cases hv
theorem fl_X8_g : ∀ w ∈ (flAt "FilterWaterworks$ConditionFailure").filter vx_no, w ∈ lw_all := lw_in _ [82, 378, 387, 399, 402, 404, 379, 380, 123, 124, 381, 386, 400, 623, 368, 624, 370, 625, 372, 382, 384, 374, 1216, 390, 621, 376, 1218] (by decide +kernel) (by decide +kernel)
theorem fl_X13_g : ∀ w ∈ (flAt "FilterWaterworks$SyntaxFailure").filter vx_no, w ∈ lw_all := lw_in _ [82, 378, 387, 399, 402, 404, 379, 380, 123, 124, 381, 386, 400, 623, 368, 624, 370, 625, 372, 382, 384, 374, 2138, 391, 621, 376, 2140] (by decide +kernel) (by decide +kernel)
theorem fl_X14_g : ∀ w ∈ (flAt "FilterWaterworks$CommandFailure").filter vx_no, w ∈ lw_all := lw_in _ [82, 378, 387, 399, 402, 404, 379, 380, 123, 124, 381, 386, 400, 623, 368, 624, 370, 625, 372, 382, 384, 374, 2196, 389, 621, 376, 2198] (by decide +kernel) (by decide +kernel)
set_option maxHeartbeats 4000000 in
theorem k_J11_init_3_15 (g : Gh) (l : Launch) (σ : Sto) (h : Nat) (e0 : σ h = some (.inr (15, [.null, .null, .null, .null, .null, .int (nI 0), .null]))) (b0 : gB g ≤ h) : Ct g l yJ11_init_3 cJ11_init_3 3 none ({ frames := 3, cells := 0, slots := 0, locals := 64 } : Room) [.ref h, .null, .null] σ (fun r σ' => r = none ∧ ∃ u0 sen : RefV, σ' = sset σ h (.inr (15, [.null, u0.v, sen.v, .null, .null, .int (nI 0), .null]))) (nox) := by
  refine Ct.body (by decide) (Nat.le_of_ble_eq_true rfl) ?_
  intro p_ e_ s_ m_ args_ below_ meth_ c_ ls H locs Q F hW hl hQ
  have hl : lv_has ls 3 [(0, .ref h), (1, .null), (2, .null)] := hl
  obtain ⟨u0, sen, hu0, hsen⟩ := stV_ex F
  refine lv_aload_n F.x F.cd dJ11_init_3_0 rfl (lv_at hl 0 rfl) ?_
  refine W.objInit F.x F.cd F.ow (F.ts _ q381) (F.ts _ q123) (F.ts _ q124) rfl (by rw [F.ml]; exact hl.1) rfl dJ11_init_3_1 (Nat.le_of_ble_eq_true rfl) (Nat.le_of_ble_eq_true rfl) ?_
  refine W.eq (g2 := F0 m_ 4 ls ([])) rfl ?_
  refine lv_aload_n F.x F.cd dJ11_init_3_4 rfl (lv_at hl 0 rfl) ?_
  refine lv_aload_n F.x F.cd dJ11_init_3_5 rfl (lv_at hl 0 rfl) ?_
  refine s_put F hW (ci := 15) (C := RX8) (T := TX8) (N := 7) (v := .ref h) (ty := (.object "java/lang/Throwable")) (e0) (b0) rfl in_X8 tyX8_ok nmX8 0 (by decide) q623 (fun _ h9 => h9) rfl (by decide +kernel) rfl rfl (Nat.le_of_ble_eq_true rfl) dJ11_init_3_6 (fun H locs hW => ?_)
  obtain ⟨σ2, hσ2⟩ : ∃ z, z = sset σ h (.inr (15, [.ref h, .null, .null, .null, .null, .int (nI 0), .null])) := ⟨_, rfl⟩
  have hW : Hl g σ2 H locs := by rw [hσ2]; exact hW
  have w2 : σ2 h = some (.inr (15, [.ref h, .null, .null, .null, .null, .int (nI 0), .null])) := by rw [hσ2]; exact sset_eq
  refine lv_aload_n F.x F.cd dJ11_init_3_9 rfl (lv_at hl 0 rfl) ?_
  refine s_getsV F hW hu0 q382 dJ11_init_3_10 ?_
  refine s_put F hW (ci := 15) (C := RX8) (T := TX8) (N := 7) (v := u0.v) (ty := (.array (.object "java/lang/StackTraceElement"))) (w2) (b0) rfl in_X8 tyX8_ok nmX8 1 (by decide) q624 (fun _ h9 => h9) rfl (by decide +kernel) (narrow_refV _ _) (fits_refV_array _ u0) (Nat.le_of_ble_eq_true rfl) dJ11_init_3_13 (fun H locs hW => ?_)
  obtain ⟨σ4, hσ4⟩ : ∃ z, z = sset σ2 h (.inr (15, [.ref h, u0.v, .null, .null, .null, .int (nI 0), .null])) := ⟨_, rfl⟩
  have hW : Hl g σ4 H locs := by rw [hσ4]; exact hW
  have w4 : σ4 h = some (.inr (15, [.ref h, u0.v, .null, .null, .null, .int (nI 0), .null])) := by rw [hσ4]; exact sset_eq
  refine lv_aload_n F.x F.cd dJ11_init_3_16 rfl (lv_at hl 0 rfl) ?_
  refine s_getsV F hW hsen q384 dJ11_init_3_17 ?_
  refine s_put F hW (ci := 15) (C := RX8) (T := TX8) (N := 7) (v := sen.v) (ty := (.object "java/util/List")) (w4) (b0) rfl in_X8 tyX8_ok nmX8 2 (by decide) q625 (fun _ h9 => h9) rfl (by decide +kernel) (narrow_refV _ _) (fits_refV_object _ sen) (Nat.le_of_ble_eq_true rfl) dJ11_init_3_20 (fun H locs hW => ?_)
  obtain ⟨σ6, hσ6⟩ : ∃ z, z = sset σ4 h (.inr (15, [.ref h, u0.v, sen.v, .null, .null, .int (nI 0), .null])) := ⟨_, rfl⟩
  have hW : Hl g σ6 H locs := by rw [hσ6]; exact hW
  have w6 : σ6 h = some (.inr (15, [.ref h, u0.v, sen.v, .null, .null, .int (nI 0), .null])) := by rw [hσ6]; exact sset_eq
  refine lv_aload_n F.x F.cd dJ11_init_3_23 rfl (lv_at hl 0 rfl) ?_
  refine s_fill F hW (ci := 15) (C := RX8) (T0 := TX8) (N := 7) (w6) b0 ⟨Nat.le_of_ble_eq_true rfl, Nat.le_of_ble_eq_true rfl⟩ rfl (by decide) ⟨rfl, rfl, rfl⟩ ⟨rfl, rfl, rfl⟩ hu0 rfl rfl (fun w hw => F.ts w (fl_X8_g w hw)) (by decide +kernel) hl.1 dJ11_init_3_24 (Nat.le_of_ble_eq_true rfl) (Nat.le_of_ble_eq_true rfl) ⟨Nat.le_of_ble_eq_true rfl, Nat.le_of_ble_eq_true rfl⟩ ?_
  refine lv_pop F.x F.cd dJ11_init_3_27 rfl ?_
  refine lv_aload_n F.x F.cd dJ11_init_3_28 rfl (lv_at hl 0 rfl) ?_
  refine lv_aload_nN F.x F.cd dJ11_init_3_29 rfl (lv_at hl 1 rfl) ?_
  refine s_put F hW (ci := 15) (C := RX8) (T := TX8) (N := 7) (v := .null) (ty := (.object "java/lang/String")) (w6) (b0) rfl in_X8 tyX8_ok nmX8 3 (by decide) q622 (fun _ h9 => h9) rfl (by decide +kernel) rfl rfl (Nat.le_of_ble_eq_true rfl) dJ11_init_3_30 (fun H locs hW => ?_)
  obtain ⟨σ8, hσ8⟩ : ∃ z, z = sset σ6 h (.inr (15, [.ref h, u0.v, sen.v, .null, .null, .int (nI 0), .null])) := ⟨_, rfl⟩
  have hW : Hl g σ8 H locs := by rw [hσ8]; exact hW
  have w8 : σ8 h = some (.inr (15, [.ref h, u0.v, sen.v, .null, .null, .int (nI 0), .null])) := by rw [hσ8]; exact sset_eq
  refine lv_aload_n F.x F.cd dJ11_init_3_33 rfl (lv_at hl 0 rfl) ?_
  refine lv_aload_nN F.x F.cd dJ11_init_3_34 rfl (lv_at hl 2 rfl) ?_
  refine s_put F hW (ci := 15) (C := RX8) (T := TX8) (N := 7) (v := .null) (ty := (.object "java/lang/Throwable")) (w8) (b0) rfl in_X8 tyX8_ok nmX8 0 (by decide) q623 (fun _ h9 => h9) rfl (by decide +kernel) rfl rfl (Nat.le_of_ble_eq_true rfl) dJ11_init_3_35 (fun H locs hW => ?_)
  obtain ⟨σ10, hσ10⟩ : ∃ z, z = sset σ8 h (.inr (15, [.null, u0.v, sen.v, .null, .null, .int (nI 0), .null])) := ⟨_, rfl⟩
  have hW : Hl g σ10 H locs := by rw [hσ10]; exact hW
  have w10 : σ10 h = some (.inr (15, [.null, u0.v, sen.v, .null, .null, .int (nI 0), .null])) := by rw [hσ10]; exact sset_eq
  subst hQ
  exact s_retv F hW (⟨rfl, u0, sen, by rw [hσ10, hσ8, hσ6, hσ4, hσ2, sset_sset, sset_sset, sset_sset, sset_sset]⟩) ⟨(Nat.le_of_ble_eq_true rfl), (Nat.le_of_ble_eq_true rfl)⟩ dJ11_init_3_38
set_option maxHeartbeats 4000000 in
theorem k_J11_init_3_16 (g : Gh) (l : Launch) (σ : Sto) (h : Nat) (e0 : σ h = some (.inr (16, [.null, .null, .null, .null, .null, .int (nI 0), .int (nI 0)]))) (b0 : gB g ≤ h) : Ct g l yJ11_init_3 cJ11_init_3 3 none ({ frames := 3, cells := 0, slots := 0, locals := 64 } : Room) [.ref h, .null, .null] σ (fun r σ' => r = none ∧ ∃ u0 sen : RefV, σ' = sset σ h (.inr (16, [.null, u0.v, sen.v, .null, .null, .int (nI 0), .int (nI 0)]))) (nox) := by
  refine Ct.body (by decide) (Nat.le_of_ble_eq_true rfl) ?_
  intro p_ e_ s_ m_ args_ below_ meth_ c_ ls H locs Q F hW hl hQ
  have hl : lv_has ls 3 [(0, .ref h), (1, .null), (2, .null)] := hl
  obtain ⟨u0, sen, hu0, hsen⟩ := stV_ex F
  refine lv_aload_n F.x F.cd dJ11_init_3_0 rfl (lv_at hl 0 rfl) ?_
  refine W.objInit F.x F.cd F.ow (F.ts _ q381) (F.ts _ q123) (F.ts _ q124) rfl (by rw [F.ml]; exact hl.1) rfl dJ11_init_3_1 (Nat.le_of_ble_eq_true rfl) (Nat.le_of_ble_eq_true rfl) ?_
  refine W.eq (g2 := F0 m_ 4 ls ([])) rfl ?_
  refine lv_aload_n F.x F.cd dJ11_init_3_4 rfl (lv_at hl 0 rfl) ?_
  refine lv_aload_n F.x F.cd dJ11_init_3_5 rfl (lv_at hl 0 rfl) ?_
  refine s_put F hW (ci := 16) (C := RX13) (T := TX13) (N := 7) (v := .ref h) (ty := (.object "java/lang/Throwable")) (e0) (b0) rfl in_X13 tyX13_ok nmX13 0 (by decide) q623 (fun _ h9 => h9) rfl (by decide +kernel) rfl rfl (Nat.le_of_ble_eq_true rfl) dJ11_init_3_6 (fun H locs hW => ?_)
  obtain ⟨σ2, hσ2⟩ : ∃ z, z = sset σ h (.inr (16, [.ref h, .null, .null, .null, .null, .int (nI 0), .int (nI 0)])) := ⟨_, rfl⟩
  have hW : Hl g σ2 H locs := by rw [hσ2]; exact hW
  have w2 : σ2 h = some (.inr (16, [.ref h, .null, .null, .null, .null, .int (nI 0), .int (nI 0)])) := by rw [hσ2]; exact sset_eq
  refine lv_aload_n F.x F.cd dJ11_init_3_9 rfl (lv_at hl 0 rfl) ?_
  refine s_getsV F hW hu0 q382 dJ11_init_3_10 ?_
  refine s_put F hW (ci := 16) (C := RX13) (T := TX13) (N := 7) (v := u0.v) (ty := (.array (.object "java/lang/StackTraceElement"))) (w2) (b0) rfl in_X13 tyX13_ok nmX13 1 (by decide) q624 (fun _ h9 => h9) rfl (by decide +kernel) (narrow_refV _ _) (fits_refV_array _ u0) (Nat.le_of_ble_eq_true rfl) dJ11_init_3_13 (fun H locs hW => ?_)
  obtain ⟨σ4, hσ4⟩ : ∃ z, z = sset σ2 h (.inr (16, [.ref h, u0.v, .null, .null, .null, .int (nI 0), .int (nI 0)])) := ⟨_, rfl⟩
  have hW : Hl g σ4 H locs := by rw [hσ4]; exact hW
  have w4 : σ4 h = some (.inr (16, [.ref h, u0.v, .null, .null, .null, .int (nI 0), .int (nI 0)])) := by rw [hσ4]; exact sset_eq
  refine lv_aload_n F.x F.cd dJ11_init_3_16 rfl (lv_at hl 0 rfl) ?_
  refine s_getsV F hW hsen q384 dJ11_init_3_17 ?_
  refine s_put F hW (ci := 16) (C := RX13) (T := TX13) (N := 7) (v := sen.v) (ty := (.object "java/util/List")) (w4) (b0) rfl in_X13 tyX13_ok nmX13 2 (by decide) q625 (fun _ h9 => h9) rfl (by decide +kernel) (narrow_refV _ _) (fits_refV_object _ sen) (Nat.le_of_ble_eq_true rfl) dJ11_init_3_20 (fun H locs hW => ?_)
  obtain ⟨σ6, hσ6⟩ : ∃ z, z = sset σ4 h (.inr (16, [.ref h, u0.v, sen.v, .null, .null, .int (nI 0), .int (nI 0)])) := ⟨_, rfl⟩
  have hW : Hl g σ6 H locs := by rw [hσ6]; exact hW
  have w6 : σ6 h = some (.inr (16, [.ref h, u0.v, sen.v, .null, .null, .int (nI 0), .int (nI 0)])) := by rw [hσ6]; exact sset_eq
  refine lv_aload_n F.x F.cd dJ11_init_3_23 rfl (lv_at hl 0 rfl) ?_
  refine s_fill F hW (ci := 16) (C := RX13) (T0 := TX13) (N := 7) (w6) b0 ⟨Nat.le_of_ble_eq_true rfl, Nat.le_of_ble_eq_true rfl⟩ rfl (by decide) ⟨rfl, rfl, rfl⟩ ⟨rfl, rfl, rfl⟩ hu0 rfl rfl (fun w hw => F.ts w (fl_X13_g w hw)) (by decide +kernel) hl.1 dJ11_init_3_24 (Nat.le_of_ble_eq_true rfl) (Nat.le_of_ble_eq_true rfl) ⟨Nat.le_of_ble_eq_true rfl, Nat.le_of_ble_eq_true rfl⟩ ?_
  refine lv_pop F.x F.cd dJ11_init_3_27 rfl ?_
  refine lv_aload_n F.x F.cd dJ11_init_3_28 rfl (lv_at hl 0 rfl) ?_
  refine lv_aload_nN F.x F.cd dJ11_init_3_29 rfl (lv_at hl 1 rfl) ?_
  refine s_put F hW (ci := 16) (C := RX13) (T := TX13) (N := 7) (v := .null) (ty := (.object "java/lang/String")) (w6) (b0) rfl in_X13 tyX13_ok nmX13 3 (by decide) q622 (fun _ h9 => h9) rfl (by decide +kernel) rfl rfl (Nat.le_of_ble_eq_true rfl) dJ11_init_3_30 (fun H locs hW => ?_)
  obtain ⟨σ8, hσ8⟩ : ∃ z, z = sset σ6 h (.inr (16, [.ref h, u0.v, sen.v, .null, .null, .int (nI 0), .int (nI 0)])) := ⟨_, rfl⟩
  have hW : Hl g σ8 H locs := by rw [hσ8]; exact hW
  have w8 : σ8 h = some (.inr (16, [.ref h, u0.v, sen.v, .null, .null, .int (nI 0), .int (nI 0)])) := by rw [hσ8]; exact sset_eq
  refine lv_aload_n F.x F.cd dJ11_init_3_33 rfl (lv_at hl 0 rfl) ?_
  refine lv_aload_nN F.x F.cd dJ11_init_3_34 rfl (lv_at hl 2 rfl) ?_
  refine s_put F hW (ci := 16) (C := RX13) (T := TX13) (N := 7) (v := .null) (ty := (.object "java/lang/Throwable")) (w8) (b0) rfl in_X13 tyX13_ok nmX13 0 (by decide) q623 (fun _ h9 => h9) rfl (by decide +kernel) rfl rfl (Nat.le_of_ble_eq_true rfl) dJ11_init_3_35 (fun H locs hW => ?_)
  obtain ⟨σ10, hσ10⟩ : ∃ z, z = sset σ8 h (.inr (16, [.null, u0.v, sen.v, .null, .null, .int (nI 0), .int (nI 0)])) := ⟨_, rfl⟩
  have hW : Hl g σ10 H locs := by rw [hσ10]; exact hW
  have w10 : σ10 h = some (.inr (16, [.null, u0.v, sen.v, .null, .null, .int (nI 0), .int (nI 0)])) := by rw [hσ10]; exact sset_eq
  subst hQ
  exact s_retv F hW (⟨rfl, u0, sen, by rw [hσ10, hσ8, hσ6, hσ4, hσ2, sset_sset, sset_sset, sset_sset, sset_sset]⟩) ⟨(Nat.le_of_ble_eq_true rfl), (Nat.le_of_ble_eq_true rfl)⟩ dJ11_init_3_38
set_option maxHeartbeats 4000000 in
theorem k_J11_init_3_17 (g : Gh) (l : Launch) (σ : Sto) (h cz : Nat) (e0 : σ h = some (.inr (17, [.null, .null, .null, .null, .null, .int (nI 0), .int (nI 0)]))) (b0 : gB g ≤ h) : Ct g l yJ11_init_3 cJ11_init_3 3 none ({ frames := 3, cells := 0, slots := 0, locals := 64 } : Room) [.ref h, .null, .ref cz] σ (fun r σ' => r = none ∧ ∃ u0 sen : RefV, σ' = sset σ h (.inr (17, [.ref cz, u0.v, sen.v, .null, .null, .int (nI 0), .int (nI 0)]))) (nox) := by
  refine Ct.body (by decide) (Nat.le_of_ble_eq_true rfl) ?_
  intro p_ e_ s_ m_ args_ below_ meth_ c_ ls H locs Q F hW hl hQ
  have hl : lv_has ls 3 [(0, .ref h), (1, .null), (2, .ref cz)] := hl
  obtain ⟨u0, sen, hu0, hsen⟩ := stV_ex F
  refine lv_aload_n F.x F.cd dJ11_init_3_0 rfl (lv_at hl 0 rfl) ?_
  refine W.objInit F.x F.cd F.ow (F.ts _ q381) (F.ts _ q123) (F.ts _ q124) rfl (by rw [F.ml]; exact hl.1) rfl dJ11_init_3_1 (Nat.le_of_ble_eq_true rfl) (Nat.le_of_ble_eq_true rfl) ?_
  refine W.eq (g2 := F0 m_ 4 ls ([])) rfl ?_
  refine lv_aload_n F.x F.cd dJ11_init_3_4 rfl (lv_at hl 0 rfl) ?_
  refine lv_aload_n F.x F.cd dJ11_init_3_5 rfl (lv_at hl 0 rfl) ?_
  refine s_put F hW (ci := 17) (C := RX14) (T := TX14) (N := 7) (v := .ref h) (ty := (.object "java/lang/Throwable")) (e0) (b0) rfl in_X14 tyX14_ok nmX14 0 (by decide) q623 (fun _ h9 => h9) rfl (by decide +kernel) rfl rfl (Nat.le_of_ble_eq_true rfl) dJ11_init_3_6 (fun H locs hW => ?_)
  obtain ⟨σ2, hσ2⟩ : ∃ z, z = sset σ h (.inr (17, [.ref h, .null, .null, .null, .null, .int (nI 0), .int (nI 0)])) := ⟨_, rfl⟩
  have hW : Hl g σ2 H locs := by rw [hσ2]; exact hW
  have w2 : σ2 h = some (.inr (17, [.ref h, .null, .null, .null, .null, .int (nI 0), .int (nI 0)])) := by rw [hσ2]; exact sset_eq
  refine lv_aload_n F.x F.cd dJ11_init_3_9 rfl (lv_at hl 0 rfl) ?_
  refine s_getsV F hW hu0 q382 dJ11_init_3_10 ?_
  refine s_put F hW (ci := 17) (C := RX14) (T := TX14) (N := 7) (v := u0.v) (ty := (.array (.object "java/lang/StackTraceElement"))) (w2) (b0) rfl in_X14 tyX14_ok nmX14 1 (by decide) q624 (fun _ h9 => h9) rfl (by decide +kernel) (narrow_refV _ _) (fits_refV_array _ u0) (Nat.le_of_ble_eq_true rfl) dJ11_init_3_13 (fun H locs hW => ?_)
  obtain ⟨σ4, hσ4⟩ : ∃ z, z = sset σ2 h (.inr (17, [.ref h, u0.v, .null, .null, .null, .int (nI 0), .int (nI 0)])) := ⟨_, rfl⟩
  have hW : Hl g σ4 H locs := by rw [hσ4]; exact hW
  have w4 : σ4 h = some (.inr (17, [.ref h, u0.v, .null, .null, .null, .int (nI 0), .int (nI 0)])) := by rw [hσ4]; exact sset_eq
  refine lv_aload_n F.x F.cd dJ11_init_3_16 rfl (lv_at hl 0 rfl) ?_
  refine s_getsV F hW hsen q384 dJ11_init_3_17 ?_
  refine s_put F hW (ci := 17) (C := RX14) (T := TX14) (N := 7) (v := sen.v) (ty := (.object "java/util/List")) (w4) (b0) rfl in_X14 tyX14_ok nmX14 2 (by decide) q625 (fun _ h9 => h9) rfl (by decide +kernel) (narrow_refV _ _) (fits_refV_object _ sen) (Nat.le_of_ble_eq_true rfl) dJ11_init_3_20 (fun H locs hW => ?_)
  obtain ⟨σ6, hσ6⟩ : ∃ z, z = sset σ4 h (.inr (17, [.ref h, u0.v, sen.v, .null, .null, .int (nI 0), .int (nI 0)])) := ⟨_, rfl⟩
  have hW : Hl g σ6 H locs := by rw [hσ6]; exact hW
  have w6 : σ6 h = some (.inr (17, [.ref h, u0.v, sen.v, .null, .null, .int (nI 0), .int (nI 0)])) := by rw [hσ6]; exact sset_eq
  refine lv_aload_n F.x F.cd dJ11_init_3_23 rfl (lv_at hl 0 rfl) ?_
  refine s_fill F hW (ci := 17) (C := RX14) (T0 := TX14) (N := 7) (w6) b0 ⟨Nat.le_of_ble_eq_true rfl, Nat.le_of_ble_eq_true rfl⟩ rfl (by decide) ⟨rfl, rfl, rfl⟩ ⟨rfl, rfl, rfl⟩ hu0 rfl rfl (fun w hw => F.ts w (fl_X14_g w hw)) (by decide +kernel) hl.1 dJ11_init_3_24 (Nat.le_of_ble_eq_true rfl) (Nat.le_of_ble_eq_true rfl) ⟨Nat.le_of_ble_eq_true rfl, Nat.le_of_ble_eq_true rfl⟩ ?_
  refine lv_pop F.x F.cd dJ11_init_3_27 rfl ?_
  refine lv_aload_n F.x F.cd dJ11_init_3_28 rfl (lv_at hl 0 rfl) ?_
  refine lv_aload_nN F.x F.cd dJ11_init_3_29 rfl (lv_at hl 1 rfl) ?_
  refine s_put F hW (ci := 17) (C := RX14) (T := TX14) (N := 7) (v := .null) (ty := (.object "java/lang/String")) (w6) (b0) rfl in_X14 tyX14_ok nmX14 3 (by decide) q622 (fun _ h9 => h9) rfl (by decide +kernel) rfl rfl (Nat.le_of_ble_eq_true rfl) dJ11_init_3_30 (fun H locs hW => ?_)
  obtain ⟨σ8, hσ8⟩ : ∃ z, z = sset σ6 h (.inr (17, [.ref h, u0.v, sen.v, .null, .null, .int (nI 0), .int (nI 0)])) := ⟨_, rfl⟩
  have hW : Hl g σ8 H locs := by rw [hσ8]; exact hW
  have w8 : σ8 h = some (.inr (17, [.ref h, u0.v, sen.v, .null, .null, .int (nI 0), .int (nI 0)])) := by rw [hσ8]; exact sset_eq
  refine lv_aload_n F.x F.cd dJ11_init_3_33 rfl (lv_at hl 0 rfl) ?_
  refine lv_aload_n F.x F.cd dJ11_init_3_34 rfl (lv_at hl 2 rfl) ?_
  refine s_put F hW (ci := 17) (C := RX14) (T := TX14) (N := 7) (v := .ref cz) (ty := (.object "java/lang/Throwable")) (w8) (b0) rfl in_X14 tyX14_ok nmX14 0 (by decide) q623 (fun _ h9 => h9) rfl (by decide +kernel) rfl rfl (Nat.le_of_ble_eq_true rfl) dJ11_init_3_35 (fun H locs hW => ?_)
  obtain ⟨σ10, hσ10⟩ : ∃ z, z = sset σ8 h (.inr (17, [.ref cz, u0.v, sen.v, .null, .null, .int (nI 0), .int (nI 0)])) := ⟨_, rfl⟩
  have hW : Hl g σ10 H locs := by rw [hσ10]; exact hW
  have w10 : σ10 h = some (.inr (17, [.ref cz, u0.v, sen.v, .null, .null, .int (nI 0), .int (nI 0)])) := by rw [hσ10]; exact sset_eq
  subst hQ
  exact s_retv F hW (⟨rfl, u0, sen, by rw [hσ10, hσ8, hσ6, hσ4, hσ2, sset_sset, sset_sset, sset_sset, sset_sset]⟩) ⟨(Nat.le_of_ble_eq_true rfl), (Nat.le_of_ble_eq_true rfl)⟩ dJ11_init_3_38
set_option maxHeartbeats 4000000 in
theorem k_J12_init_2_15 (g : Gh) (l : Launch) (σ : Sto) (h : Nat) (e0 : σ h = some (.inr (15, [.null, .null, .null, .null, .null, .int (nI 0), .null]))) (b0 : gB g ≤ h) : Ct g l yJ12_init_2 cJ12_init_2 3 none ({ frames := 4, cells := 0, slots := 0, locals := 86 } : Room) [.ref h, .null, .null] σ (fun r σ' => r = none ∧ ∃ u0 sen : RefV, σ' = sset σ h (.inr (15, [.null, u0.v, sen.v, .null, .null, .int (nI 0), .null]))) (nox) := by
  refine Ct.body (by decide) (Nat.le_of_ble_eq_true rfl) ?_
  intro p_ e_ s_ m_ args_ below_ meth_ c_ ls H locs Q F hW hl hQ
  have hl : lv_has ls 3 [(0, .ref h), (1, .null), (2, .null)] := hl
  refine lv_aload_n F.x F.cd dJ12_init_2_0 rfl (lv_at hl 0 rfl) ?_
  refine lv_aload_nN F.x F.cd dJ12_init_2_1 rfl (lv_at hl 1 rfl) ?_
  refine lv_aload_nN F.x F.cd dJ12_init_2_2 rfl (lv_at hl 2 rfl) ?_
  refine s_callI (As := [.null, .null]) (rest := []) (n := 2) F hW (k_J11_init_3_15 g l σ h (e0) (b0)) q1231 q1232 q82 q1233 rfl (by decide +kernel) rfl ⟨⟨Nat.le_of_ble_eq_true rfl, Nat.le_of_ble_eq_true rfl⟩, ⟨(Nat.le_of_ble_eq_true rfl), (Nat.le_of_ble_eq_true rfl)⟩⟩ (Nat.le_of_ble_eq_true rfl) hl.1 rfl dJ12_init_2_3 cX_no (fun r1 σ1 H locs hp1 hW => ?_)
  obtain ⟨rfl, u0, sen, hσ1⟩ := hp1
  refine W.eq (g2 := F0 m_ 6 ls ([])) rfl ?_
  have w2 : σ1 h = some (.inr (15, [.null, u0.v, sen.v, .null, .null, .int (nI 0), .null])) := by rw [hσ1]; exact sset_eq
  subst hQ
  exact s_retv F hW (⟨rfl, u0, sen, by rw [hσ1]⟩) ⟨(Nat.le_of_ble_eq_true rfl), (Nat.le_of_ble_eq_true rfl)⟩ dJ12_init_2_6
set_option maxHeartbeats 4000000 in
theorem k_J12_init_2_16 (g : Gh) (l : Launch) (σ : Sto) (h : Nat) (e0 : σ h = some (.inr (16, [.null, .null, .null, .null, .null, .int (nI 0), .int (nI 0)]))) (b0 : gB g ≤ h) : Ct g l yJ12_init_2 cJ12_init_2 3 none ({ frames := 4, cells := 0, slots := 0, locals := 86 } : Room) [.ref h, .null, .null] σ (fun r σ' => r = none ∧ ∃ u0 sen : RefV, σ' = sset σ h (.inr (16, [.null, u0.v, sen.v, .null, .null, .int (nI 0), .int (nI 0)]))) (nox) := by
  refine Ct.body (by decide) (Nat.le_of_ble_eq_true rfl) ?_
  intro p_ e_ s_ m_ args_ below_ meth_ c_ ls H locs Q F hW hl hQ
  have hl : lv_has ls 3 [(0, .ref h), (1, .null), (2, .null)] := hl
  refine lv_aload_n F.x F.cd dJ12_init_2_0 rfl (lv_at hl 0 rfl) ?_
  refine lv_aload_nN F.x F.cd dJ12_init_2_1 rfl (lv_at hl 1 rfl) ?_
  refine lv_aload_nN F.x F.cd dJ12_init_2_2 rfl (lv_at hl 2 rfl) ?_
  refine s_callI (As := [.null, .null]) (rest := []) (n := 2) F hW (k_J11_init_3_16 g l σ h (e0) (b0)) q1231 q1232 q82 q1233 rfl (by decide +kernel) rfl ⟨⟨Nat.le_of_ble_eq_true rfl, Nat.le_of_ble_eq_true rfl⟩, ⟨(Nat.le_of_ble_eq_true rfl), (Nat.le_of_ble_eq_true rfl)⟩⟩ (Nat.le_of_ble_eq_true rfl) hl.1 rfl dJ12_init_2_3 cX_no (fun r1 σ1 H locs hp1 hW => ?_)
  obtain ⟨rfl, u0, sen, hσ1⟩ := hp1
  refine W.eq (g2 := F0 m_ 6 ls ([])) rfl ?_
  have w2 : σ1 h = some (.inr (16, [.null, u0.v, sen.v, .null, .null, .int (nI 0), .int (nI 0)])) := by rw [hσ1]; exact sset_eq
  subst hQ
  exact s_retv F hW (⟨rfl, u0, sen, by rw [hσ1]⟩) ⟨(Nat.le_of_ble_eq_true rfl), (Nat.le_of_ble_eq_true rfl)⟩ dJ12_init_2_6
set_option maxHeartbeats 4000000 in
theorem k_J12_init_2_17 (g : Gh) (l : Launch) (σ : Sto) (h cz : Nat) (e0 : σ h = some (.inr (17, [.null, .null, .null, .null, .null, .int (nI 0), .int (nI 0)]))) (b0 : gB g ≤ h) : Ct g l yJ12_init_2 cJ12_init_2 3 none ({ frames := 4, cells := 0, slots := 0, locals := 86 } : Room) [.ref h, .null, .ref cz] σ (fun r σ' => r = none ∧ ∃ u0 sen : RefV, σ' = sset σ h (.inr (17, [.ref cz, u0.v, sen.v, .null, .null, .int (nI 0), .int (nI 0)]))) (nox) := by
  refine Ct.body (by decide) (Nat.le_of_ble_eq_true rfl) ?_
  intro p_ e_ s_ m_ args_ below_ meth_ c_ ls H locs Q F hW hl hQ
  have hl : lv_has ls 3 [(0, .ref h), (1, .null), (2, .ref cz)] := hl
  refine lv_aload_n F.x F.cd dJ12_init_2_0 rfl (lv_at hl 0 rfl) ?_
  refine lv_aload_nN F.x F.cd dJ12_init_2_1 rfl (lv_at hl 1 rfl) ?_
  refine lv_aload_n F.x F.cd dJ12_init_2_2 rfl (lv_at hl 2 rfl) ?_
  refine s_callI (As := [.null, .ref cz]) (rest := []) (n := 2) F hW (k_J11_init_3_17 g l σ h cz (e0) (b0)) q1231 q1232 q82 q1233 rfl (by decide +kernel) rfl ⟨⟨Nat.le_of_ble_eq_true rfl, Nat.le_of_ble_eq_true rfl⟩, ⟨(Nat.le_of_ble_eq_true rfl), (Nat.le_of_ble_eq_true rfl)⟩⟩ (Nat.le_of_ble_eq_true rfl) hl.1 rfl dJ12_init_2_3 cX_no (fun r1 σ1 H locs hp1 hW => ?_)
  obtain ⟨rfl, u0, sen, hσ1⟩ := hp1
  refine W.eq (g2 := F0 m_ 6 ls ([])) rfl ?_
  have w2 : σ1 h = some (.inr (17, [.ref cz, u0.v, sen.v, .null, .null, .int (nI 0), .int (nI 0)])) := by rw [hσ1]; exact sset_eq
  subst hQ
  exact s_retv F hW (⟨rfl, u0, sen, by rw [hσ1]⟩) ⟨(Nat.le_of_ble_eq_true rfl), (Nat.le_of_ble_eq_true rfl)⟩ dJ12_init_2_6
set_option maxHeartbeats 4000000 in
theorem k_X7_init_15 (g : Gh) (l : Launch) (σ : Sto) (h : Nat) (e0 : σ h = some (.inr (15, [.null, .null, .null, .null, .null, .int (nI 0), .null]))) (b0 : gB g ≤ h) : Ct g l yX7_init cX7_init 2 none ({ frames := 5, cells := 0, slots := 0, locals := 108 } : Room) [.ref h, .null] σ (fun r σ' => r = none ∧ ∃ u0 sen : RefV, σ' = sset σ h (.inr (15, [.null, u0.v, sen.v, .null, .null, .int (nI 0), .null]))) (nox) := by
  refine Ct.body (by decide) (Nat.le_of_ble_eq_true rfl) ?_
  intro p_ e_ s_ m_ args_ below_ meth_ c_ ls H locs Q F hW hl hQ
  have hl : lv_has ls 2 [(0, .ref h), (1, .null)] := hl
  refine lv_aload_n F.x F.cd dX7_init_0 rfl (lv_at hl 0 rfl) ?_
  refine lv_null F.x F.cd dX7_init_1 ?_
  refine lv_aload_nN F.x F.cd dX7_init_2 rfl (lv_at hl 1 rfl) ?_
  refine s_callI (As := [.null, .null]) (rest := []) (n := 2) F hW (k_J12_init_2_15 g l σ h (e0) (b0)) q1228 q1229 q83 q1230 rfl (by decide +kernel) rfl ⟨⟨Nat.le_of_ble_eq_true rfl, Nat.le_of_ble_eq_true rfl⟩, ⟨(Nat.le_of_ble_eq_true rfl), (Nat.le_of_ble_eq_true rfl)⟩⟩ (Nat.le_of_ble_eq_true rfl) hl.1 rfl dX7_init_3 cX_no (fun r1 σ1 H locs hp1 hW => ?_)
  obtain ⟨rfl, u0, sen, hσ1⟩ := hp1
  refine W.eq (g2 := F0 m_ 6 ls ([])) rfl ?_
  have w2 : σ1 h = some (.inr (15, [.null, u0.v, sen.v, .null, .null, .int (nI 0), .null])) := by rw [hσ1]; exact sset_eq
  subst hQ
  exact s_retv F hW (⟨rfl, u0, sen, by rw [hσ1]⟩) ⟨(Nat.le_of_ble_eq_true rfl), (Nat.le_of_ble_eq_true rfl)⟩ dX7_init_6
set_option maxHeartbeats 4000000 in
theorem k_X7_init_16 (g : Gh) (l : Launch) (σ : Sto) (h : Nat) (e0 : σ h = some (.inr (16, [.null, .null, .null, .null, .null, .int (nI 0), .int (nI 0)]))) (b0 : gB g ≤ h) : Ct g l yX7_init cX7_init 2 none ({ frames := 5, cells := 0, slots := 0, locals := 108 } : Room) [.ref h, .null] σ (fun r σ' => r = none ∧ ∃ u0 sen : RefV, σ' = sset σ h (.inr (16, [.null, u0.v, sen.v, .null, .null, .int (nI 0), .int (nI 0)]))) (nox) := by
  refine Ct.body (by decide) (Nat.le_of_ble_eq_true rfl) ?_
  intro p_ e_ s_ m_ args_ below_ meth_ c_ ls H locs Q F hW hl hQ
  have hl : lv_has ls 2 [(0, .ref h), (1, .null)] := hl
  refine lv_aload_n F.x F.cd dX7_init_0 rfl (lv_at hl 0 rfl) ?_
  refine lv_null F.x F.cd dX7_init_1 ?_
  refine lv_aload_nN F.x F.cd dX7_init_2 rfl (lv_at hl 1 rfl) ?_
  refine s_callI (As := [.null, .null]) (rest := []) (n := 2) F hW (k_J12_init_2_16 g l σ h (e0) (b0)) q1228 q1229 q83 q1230 rfl (by decide +kernel) rfl ⟨⟨Nat.le_of_ble_eq_true rfl, Nat.le_of_ble_eq_true rfl⟩, ⟨(Nat.le_of_ble_eq_true rfl), (Nat.le_of_ble_eq_true rfl)⟩⟩ (Nat.le_of_ble_eq_true rfl) hl.1 rfl dX7_init_3 cX_no (fun r1 σ1 H locs hp1 hW => ?_)
  obtain ⟨rfl, u0, sen, hσ1⟩ := hp1
  refine W.eq (g2 := F0 m_ 6 ls ([])) rfl ?_
  have w2 : σ1 h = some (.inr (16, [.null, u0.v, sen.v, .null, .null, .int (nI 0), .int (nI 0)])) := by rw [hσ1]; exact sset_eq
  subst hQ
  exact s_retv F hW (⟨rfl, u0, sen, by rw [hσ1]⟩) ⟨(Nat.le_of_ble_eq_true rfl), (Nat.le_of_ble_eq_true rfl)⟩ dX7_init_6
set_option maxHeartbeats 4000000 in
theorem k_X7_init_17 (g : Gh) (l : Launch) (σ : Sto) (h cz : Nat) (e0 : σ h = some (.inr (17, [.null, .null, .null, .null, .null, .int (nI 0), .int (nI 0)]))) (b0 : gB g ≤ h) : Ct g l yX7_init cX7_init 2 none ({ frames := 5, cells := 0, slots := 0, locals := 108 } : Room) [.ref h, .ref cz] σ (fun r σ' => r = none ∧ ∃ u0 sen : RefV, σ' = sset σ h (.inr (17, [.ref cz, u0.v, sen.v, .null, .null, .int (nI 0), .int (nI 0)]))) (nox) := by
  refine Ct.body (by decide) (Nat.le_of_ble_eq_true rfl) ?_
  intro p_ e_ s_ m_ args_ below_ meth_ c_ ls H locs Q F hW hl hQ
  have hl : lv_has ls 2 [(0, .ref h), (1, .ref cz)] := hl
  refine lv_aload_n F.x F.cd dX7_init_0 rfl (lv_at hl 0 rfl) ?_
  refine lv_null F.x F.cd dX7_init_1 ?_
  refine lv_aload_n F.x F.cd dX7_init_2 rfl (lv_at hl 1 rfl) ?_
  refine s_callI (As := [.null, .ref cz]) (rest := []) (n := 2) F hW (k_J12_init_2_17 g l σ h cz (e0) (b0)) q1228 q1229 q83 q1230 rfl (by decide +kernel) rfl ⟨⟨Nat.le_of_ble_eq_true rfl, Nat.le_of_ble_eq_true rfl⟩, ⟨(Nat.le_of_ble_eq_true rfl), (Nat.le_of_ble_eq_true rfl)⟩⟩ (Nat.le_of_ble_eq_true rfl) hl.1 rfl dX7_init_3 cX_no (fun r1 σ1 H locs hp1 hW => ?_)
  obtain ⟨rfl, u0, sen, hσ1⟩ := hp1
  refine W.eq (g2 := F0 m_ 6 ls ([])) rfl ?_
  have w2 : σ1 h = some (.inr (17, [.ref cz, u0.v, sen.v, .null, .null, .int (nI 0), .int (nI 0)])) := by rw [hσ1]; exact sset_eq
  subst hQ
  exact s_retv F hW (⟨rfl, u0, sen, by rw [hσ1]⟩) ⟨(Nat.le_of_ble_eq_true rfl), (Nat.le_of_ble_eq_true rfl)⟩ dX7_init_6
set_option maxHeartbeats 4000000 in
theorem k_X8_init (g : Gh) (l : Launch) (σ : Sto) (h x : Nat) (e0 : σ h = some (.inr (15, [.null, .null, .null, .null, .null, .int (nI 0), .null]))) (b0 : gB g ≤ h) : Ct g l yX8_init cX8_init 2 none ({ frames := 6, cells := 0, slots := 0, locals := 129 } : Room) [.ref h, .ref x] σ (fun r σ' => r = none ∧ ∃ u0 sen : RefV, σ' = sset σ h (.inr (15, [.null, u0.v, sen.v, .null, .null, .int (nI 0), .ref x]))) (nox) := by
  refine Ct.body (by decide) (Nat.le_of_ble_eq_true rfl) ?_
  intro p_ e_ s_ m_ args_ below_ meth_ c_ ls H locs Q F hW hl hQ
  have hl : lv_has ls 2 [(0, .ref h), (1, .ref x)] := hl
  refine lv_aload_n F.x F.cd dX8_init_0 rfl (lv_at hl 0 rfl) ?_
  refine lv_null F.x F.cd dX8_init_1 ?_
  refine s_callI (As := [.null]) (rest := []) (n := 1) F hW (k_X7_init_15 g l σ h (e0) (b0)) q1225 q1226 q98 q1227 rfl (by decide +kernel) rfl ⟨⟨Nat.le_of_ble_eq_true rfl, Nat.le_of_ble_eq_true rfl⟩, ⟨(Nat.le_of_ble_eq_true rfl), (Nat.le_of_ble_eq_true rfl)⟩⟩ (Nat.le_of_ble_eq_true rfl) hl.1 rfl dX8_init_2 cX_no (fun r1 σ1 H locs hp1 hW => ?_)
  obtain ⟨rfl, u0, sen, hσ1⟩ := hp1
  refine W.eq (g2 := F0 m_ 5 ls ([])) rfl ?_
  have w2 : σ1 h = some (.inr (15, [.null, u0.v, sen.v, .null, .null, .int (nI 0), .null])) := by rw [hσ1]; exact sset_eq
  refine lv_aload_n F.x F.cd dX8_init_5 rfl (lv_at hl 0 rfl) ?_
  refine lv_aload_n F.x F.cd dX8_init_6 rfl (lv_at hl 1 rfl) ?_
  refine s_putF F hW (ci := 15) (C := RX8) (T := TX8) (N := 7) (v := .ref x) (ty := (.object "java/lang/String")) (w2) (b0) rfl in_X8 tyX8_ok nmX8 6 (by decide) q1234 (fun _ h9 => h9) rfl rfl (by decide +kernel) rfl rfl (Nat.le_of_ble_eq_true rfl) dX8_init_7 (fun H locs hW => ?_)
  obtain ⟨σ4, hσ4⟩ : ∃ z, z = sset σ1 h (.inr (15, [.null, u0.v, sen.v, .null, .null, .int (nI 0), .ref x])) := ⟨_, rfl⟩
  have hW : Hl g σ4 H locs := by rw [hσ4]; exact hW
  have w4 : σ4 h = some (.inr (15, [.null, u0.v, sen.v, .null, .null, .int (nI 0), .ref x])) := by rw [hσ4]; exact sset_eq
  subst hQ
  exact s_retv F hW (⟨rfl, u0, sen, by rw [hσ4, hσ1, sset_sset]⟩) ⟨(Nat.le_of_ble_eq_true rfl), (Nat.le_of_ble_eq_true rfl)⟩ dX8_init_10
set_option maxHeartbeats 4000000 in
theorem k_X13_init (g : Gh) (l : Launch) (σ : Sto) (h x : Nat) (e0 : σ h = some (.inr (16, [.null, .null, .null, .null, .null, .int (nI 0), .int (nI 0)]))) (b0 : gB g ≤ h) : Ct g l yX13_init cX13_init 2 none ({ frames := 6, cells := 0, slots := 0, locals := 129 } : Room) [.ref h, .int (nI x)] σ (fun r σ' => r = none ∧ ∃ u0 sen : RefV, σ' = sset σ h (.inr (16, [.null, u0.v, sen.v, .null, .null, .int (nI 0), .int (nI x)]))) (nox) := by
  refine Ct.body (by decide) (Nat.le_of_ble_eq_true rfl) ?_
  intro p_ e_ s_ m_ args_ below_ meth_ c_ ls H locs Q F hW hl hQ
  have hl : lv_has ls 2 [(0, .ref h), (1, .int (nI x))] := hl
  refine lv_aload_n F.x F.cd dX13_init_0 rfl (lv_at hl 0 rfl) ?_
  refine lv_null F.x F.cd dX13_init_1 ?_
  refine s_callI (As := [.null]) (rest := []) (n := 1) F hW (k_X7_init_16 g l σ h (e0) (b0)) q2147 q1226 q98 q1227 rfl (by decide +kernel) rfl ⟨⟨Nat.le_of_ble_eq_true rfl, Nat.le_of_ble_eq_true rfl⟩, ⟨(Nat.le_of_ble_eq_true rfl), (Nat.le_of_ble_eq_true rfl)⟩⟩ (Nat.le_of_ble_eq_true rfl) hl.1 rfl dX13_init_2 cX_no (fun r1 σ1 H locs hp1 hW => ?_)
  obtain ⟨rfl, u0, sen, hσ1⟩ := hp1
  refine W.eq (g2 := F0 m_ 5 ls ([])) rfl ?_
  have w2 : σ1 h = some (.inr (16, [.null, u0.v, sen.v, .null, .null, .int (nI 0), .int (nI 0)])) := by rw [hσ1]; exact sset_eq
  refine lv_aload_n F.x F.cd dX13_init_5 rfl (lv_at hl 0 rfl) ?_
  refine lv_iload_n F.x F.cd dX13_init_6 rfl (lv_at hl 1 rfl) ?_
  refine s_putF F hW (ci := 16) (C := RX13) (T := TX13) (N := 7) (v := .int (nI x)) (ty := .int) (w2) (b0) rfl in_X13 tyX13_ok nmX13 6 (by decide) q2148 (fun _ h9 => h9) rfl rfl (by decide +kernel) rfl rfl (Nat.le_of_ble_eq_true rfl) dX13_init_7 (fun H locs hW => ?_)
  obtain ⟨σ4, hσ4⟩ : ∃ z, z = sset σ1 h (.inr (16, [.null, u0.v, sen.v, .null, .null, .int (nI 0), .int (nI x)])) := ⟨_, rfl⟩
  have hW : Hl g σ4 H locs := by rw [hσ4]; exact hW
  have w4 : σ4 h = some (.inr (16, [.null, u0.v, sen.v, .null, .null, .int (nI 0), .int (nI x)])) := by rw [hσ4]; exact sset_eq
  subst hQ
  exact s_retv F hW (⟨rfl, u0, sen, by rw [hσ4, hσ1, sset_sset]⟩) ⟨(Nat.le_of_ble_eq_true rfl), (Nat.le_of_ble_eq_true rfl)⟩ dX13_init_10
set_option maxHeartbeats 4000000 in
theorem k_X14_init (g : Gh) (l : Launch) (σ : Sto) (h x cz : Nat) (e0 : σ h = some (.inr (17, [.null, .null, .null, .null, .null, .int (nI 0), .int (nI 0)]))) (b0 : gB g ≤ h) : Ct g l yX14_init cX14_init 3 none ({ frames := 6, cells := 0, slots := 0, locals := 129 } : Room) [.ref h, .int (nI x), .ref cz] σ (fun r σ' => r = none ∧ ∃ u0 sen : RefV, σ' = sset σ h (.inr (17, [.ref cz, u0.v, sen.v, .null, .null, .int (nI 0), .int (nI x)]))) (nox) := by
  refine Ct.body (by decide) (Nat.le_of_ble_eq_true rfl) ?_
  intro p_ e_ s_ m_ args_ below_ meth_ c_ ls H locs Q F hW hl hQ
  have hl : lv_has ls 3 [(0, .ref h), (1, .int (nI x)), (2, .ref cz)] := hl
  refine lv_aload_n F.x F.cd dX14_init_0 rfl (lv_at hl 0 rfl) ?_
  refine lv_aload_n F.x F.cd dX14_init_1 rfl (lv_at hl 2 rfl) ?_
  refine s_callI (As := [.ref cz]) (rest := []) (n := 1) F hW (k_X7_init_17 g l σ h cz (e0) (b0)) q2205 q1226 q98 q1227 rfl (by decide +kernel) rfl ⟨⟨Nat.le_of_ble_eq_true rfl, Nat.le_of_ble_eq_true rfl⟩, ⟨(Nat.le_of_ble_eq_true rfl), (Nat.le_of_ble_eq_true rfl)⟩⟩ (Nat.le_of_ble_eq_true rfl) hl.1 rfl dX14_init_2 cX_no (fun r1 σ1 H locs hp1 hW => ?_)
  obtain ⟨rfl, u0, sen, hσ1⟩ := hp1
  refine W.eq (g2 := F0 m_ 5 ls ([])) rfl ?_
  have w2 : σ1 h = some (.inr (17, [.ref cz, u0.v, sen.v, .null, .null, .int (nI 0), .int (nI 0)])) := by rw [hσ1]; exact sset_eq
  refine lv_aload_n F.x F.cd dX14_init_5 rfl (lv_at hl 0 rfl) ?_
  refine lv_iload_n F.x F.cd dX14_init_6 rfl (lv_at hl 1 rfl) ?_
  refine s_putF F hW (ci := 17) (C := RX14) (T := TX14) (N := 7) (v := .int (nI x)) (ty := .int) (w2) (b0) rfl in_X14 tyX14_ok nmX14 6 (by decide) q2206 (fun _ h9 => h9) rfl rfl (by decide +kernel) rfl rfl (Nat.le_of_ble_eq_true rfl) dX14_init_7 (fun H locs hW => ?_)
  obtain ⟨σ4, hσ4⟩ : ∃ z, z = sset σ1 h (.inr (17, [.ref cz, u0.v, sen.v, .null, .null, .int (nI 0), .int (nI x)])) := ⟨_, rfl⟩
  have hW : Hl g σ4 H locs := by rw [hσ4]; exact hW
  have w4 : σ4 h = some (.inr (17, [.ref cz, u0.v, sen.v, .null, .null, .int (nI 0), .int (nI x)])) := by rw [hσ4]; exact sset_eq
  subst hQ
  exact s_retv F hW (⟨rfl, u0, sen, by rw [hσ4, hσ1, sset_sset]⟩) ⟨(Nat.le_of_ble_eq_true rfl), (Nat.le_of_ble_eq_true rfl)⟩ dX14_init_10
