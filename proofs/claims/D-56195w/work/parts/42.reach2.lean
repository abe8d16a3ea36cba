/-! ===== Reach ===== -/
set_option maxRecDepth 100000
def lset (x : Int64) (s : Nat) : Int64 := x ||| (1 : Int64) <<< (Int32.toInt64 (nI s) &&& 63)
set_option maxHeartbeats 4000000 in
theorem k_X11_has (g : Gh) (l : Launch) (σ : Sto) (h ba n st : Nat) (f : Nat → Int64) (t x : Nat) (e0 : σ h = some (.inr (14, [.int (nI st), .ref ba]))) (eb : σ ba = some (eL g (4 * n) f)) (hn : n ≤ 8) (ht : t < n) (hx : x < 256) : Ct g l yX11_has cX11_has 3 (some .boolean) ({ frames := 0, cells := 0, slots := 0, locals := 0 } : Room) [.ref h, .int (nI t), .int (nI x)] σ (fun r σ' => r = some (.int (bI (lbit (f (4 * t + x / 64)) x))) ∧ σ' = σ) (nox) := by
  refine Ct.body (by decide) (Nat.le_of_ble_eq_true rfl) ?_
  intro p_ e_ s_ m_ args_ below_ meth_ c_ ls H locs Q F hW hl hQ
  have hl : lv_has ls 3 [(0, .ref h), (1, .int (nI t)), (2, .int (nI x))] := hl
  refine lv_aload_n F.x F.cd dX11_has_0 rfl (lv_at hl 0 rfl) ?_
  refine s_get F hW (ci := 14) (C := RX11) (T := TX11) (N := 2) (v := .ref ba) (e0) rfl in_X11 1 (by decide) q869 (fun _ h9 => h9) rfl dX11_has_1 ?_
  refine lv_iconst (v := (nI 4)) F.x F.cd dX11_has_4 (by decide) ?_
  refine lv_iload_n F.x F.cd dX11_has_5 rfl (lv_at hl 1 rfl) ?_
  refine a_imul (v := (nI (4 * t))) F (pk_mul _ _) dX11_has_6 ?_
  refine lv_iload_n F.x F.cd dX11_has_7 rfl (lv_at hl 2 rfl) ?_
  refine lv_bipush (v := (nI 64)) F.x F.cd dX11_has_8 (by decide) ?_
  refine a_idiv (v := (nI (x / 64))) F (pk_div (by omega) (by omega) (by omega)) (by decide) dX11_has_10 ?_
  refine a_iadd (v := (nI (4 * t + (x / 64)))) F (nI_add _ _) dX11_has_11 ?_
  refine n_lald (i := 4 * t + (x / 64)) (n := 4 * n) (f := f) (x := (f (4 * t + (x / 64)))) F hW (eb) (by omega) (by omega) (rfl) dX11_has_12 ?_
  refine lv_iload_n F.x F.cd dX11_has_13 rfl (lv_at hl 2 rfl) ?_
  refine lv_lushr (v := ((Int64.toUInt64 (f (4 * t + x / 64)) >>> ((Int32.toInt64 (nI x)).toUInt64 &&& Int64.toUInt64 63)).toInt64)) F.x F.cd dX11_has_14 (rfl) ?_
  refine lv_lconst (v := (1 : Int64)) F.x F.cd dX11_has_15 (by decide) ?_
  refine a_land (v := (((Int64.toUInt64 (f (4 * t + x / 64)) >>> ((Int32.toInt64 (nI x)).toUInt64 &&& Int64.toUInt64 63)).toInt64) &&& (1 : Int64))) F (rfl) dX11_has_16 ?_
  refine lv_lconst (v := (1 : Int64)) F.x F.cd dX11_has_17 (by decide) ?_
  refine s_lcmp F dX11_has_18 ?_
  refine lv_if_ne (x := (lcp (((Int64.toUInt64 (f (4 * t + x / 64)) >>> ((Int32.toInt64 (nI x)).toUInt64 &&& Int64.toUInt64 63)).toInt64) &&& (1 : Int64)) (1 : Int64))) (tgt := 26) F.x F.cd dX11_has_19 (by decide) (fun c_19 => ?_) (fun c_19 => ?_)
  · refine lv_iconst (v := (nI 0)) F.x F.cd dX11_has_26 (by decide) ?_
    subst hQ
    exact s_reti (v := (nI 0)) F hW (by decide) (⟨by rw [show lbit (f (4 * t + x / 64)) x = false from decide_eq_false (fun e => c_19 (lcp_eq.mpr e))]; rfl, rfl⟩) ⟨(Nat.le_of_ble_eq_true rfl), (Nat.le_of_ble_eq_true rfl)⟩ dX11_has_27
  · refine lv_iconst (v := (nI 1)) F.x F.cd dX11_has_22 (by decide) ?_
    refine lv_goto (tgt := 27) F.x F.cd dX11_has_23 (by decide) ?_
    subst hQ
    exact s_reti (v := (nI 1)) F hW (by decide) (⟨by rw [show lbit (f (4 * t + x / 64)) x = true from decide_eq_true (lcp_eq.mp c_19)]; rfl, rfl⟩) ⟨(Nat.le_of_ble_eq_true rfl), (Nat.le_of_ble_eq_true rfl)⟩ dX11_has_27
set_option maxHeartbeats 4000000 in
theorem k_X11_add (g : Gh) (l : Launch) (σ : Sto) (h ba n st : Nat) (f : Nat → Int64) (t x : Nat) (e0 : σ h = some (.inr (14, [.int (nI st), .ref ba]))) (eb : σ ba = some (eL g (4 * n) f)) (hn : n ≤ 8) (bb : gB g ≤ ba) (ht : t < n) (hx : x < 256) : Ct g l yX11_add cX11_add 4 (some .boolean) ({ frames := 1, cells := 0, slots := 0, locals := 22 } : Room) [.ref h, .int (nI t), .int (nI x)] σ (fun r σ' => r = some (.int (bI (!lbit (f (4 * t + x / 64)) x))) ∧ σ' = sset σ ba (eL g (4 * n) (va_up f (4 * t + x / 64) (lset (f (4 * t + x / 64)) x)))) (nox) := by
  refine Ct.body (by decide) (Nat.le_of_ble_eq_true rfl) ?_
  intro p_ e_ s_ m_ args_ below_ meth_ c_ ls H locs Q F hW hl hQ
  have hl : lv_has ls 4 [(0, .ref h), (1, .int (nI t)), (2, .int (nI x))] := hl
  refine lv_aload_n F.x F.cd dX11_add_0 rfl (lv_at hl 0 rfl) ?_
  refine lv_iload_n F.x F.cd dX11_add_1 rfl (lv_at hl 1 rfl) ?_
  refine lv_iload_n F.x F.cd dX11_add_2 rfl (lv_at hl 2 rfl) ?_
  refine s_callV (As := [.int (nI t), .int (nI x)]) (rest := []) (C := RX11) (T := TX11) (N := 2) (n := 2) F hW (k_X11_has g l σ h ba n st f t x (e0) (eb) hn (by omega) (by omega)) (e0) rfl q886 q887 q888 q109 q889 rfl (by decide +kernel) rfl ⟨⟨Nat.le_of_ble_eq_true rfl, Nat.le_of_ble_eq_true rfl⟩, ⟨(Nat.le_of_ble_eq_true rfl), (Nat.le_of_ble_eq_true rfl)⟩⟩ (Nat.le_of_ble_eq_true rfl) hl.1 rfl dX11_add_3 cX_no (fun r1 σ1 H locs hp1 hW => ?_)
  obtain ⟨rfl, hs1⟩ := hp1
  rw [hs1] at hW
  refine W.eq (g2 := F0 m_ 6 ls (.int (bI (lbit (f (4 * t + x / 64)) x)) :: [])) rfl ?_
  refine b_if_ne (b := (lbit (f (4 * t + x / 64)) x)) (tgt := 13) F dX11_add_6 (by decide) (fun c_6 => ?_) (fun c_6 => ?_)
  · refine lv_iconst (v := (nI 0)) F.x F.cd dX11_add_13 (by decide) ?_
    refine W.eq (g2 := F0 m_ 14 ls (.int (bI (!lbit (f (4 * t + x / 64)) x)) :: [])) (by rw [show (!lbit (f (4 * t + x / 64)) x) = false by rw [c_6]; rfl]; rfl) ?_
    refine lv_istore_n (lv' := [(3, .int (bI (!lbit (f (4 * t + x / 64)) x))), (0, .ref h), (1, .int (nI t)), (2, .int (nI x))]) F.x F.cd dX11_add_14 rfl hl (by decide) rfl (fun ls hl => ?_)
    refine lv_aload_n F.x F.cd dX11_add_15 rfl (lv_at hl 1 rfl) ?_
    refine s_get F hW (ci := 14) (C := RX11) (T := TX11) (N := 2) (v := .ref ba) (e0) rfl in_X11 1 (by decide) q869 (fun _ h9 => h9) rfl dX11_add_16 ?_
    refine lv_iconst (v := (nI 4)) F.x F.cd dX11_add_19 (by decide) ?_
    refine lv_iload_n F.x F.cd dX11_add_20 rfl (lv_at hl 2 rfl) ?_
    refine a_imul (v := (nI (4 * t))) F (pk_mul _ _) dX11_add_21 ?_
    refine lv_iload_n F.x F.cd dX11_add_22 rfl (lv_at hl 3 rfl) ?_
    refine lv_bipush (v := (nI 64)) F.x F.cd dX11_add_23 (by decide) ?_
    refine a_idiv (v := (nI (x / 64))) F (pk_div (by omega) (by omega) (by omega)) (by decide) dX11_add_25 ?_
    refine a_iadd (v := (nI (4 * t + (x / 64)))) F (nI_add _ _) dX11_add_26 ?_
    refine lv_dup2_11 F.x F.cd dX11_add_27 rfl rfl ?_
    refine n_lald (i := 4 * t + (x / 64)) (n := 4 * n) (f := f) (x := (f (4 * t + (x / 64)))) F hW (eb) (by omega) (by omega) (rfl) dX11_add_28 ?_
    refine lv_lconst (v := (1 : Int64)) F.x F.cd dX11_add_29 (by decide) ?_
    refine lv_iload_n F.x F.cd dX11_add_30 rfl (lv_at hl 3 rfl) ?_
    refine lv_lshl (v := ((1 : Int64) <<< (Int32.toInt64 (nI x) &&& 63))) F.x F.cd dX11_add_31 (rfl) ?_
    refine a_lor (v := (lset (f (4 * t + x / 64)) x)) F (rfl) dX11_add_32 ?_
    refine n_last (i := 4 * t + (x / 64)) F hW (eb) (bb) (by omega) (by omega) dX11_add_33 (fun H locs hW => ?_)
    obtain ⟨σ2, hσ2⟩ : ∃ z, z = sset σ ba (eL g (4 * n) (va_up f (4 * t + (x / 64)) (lset (f (4 * t + x / 64)) x))) := ⟨_, rfl⟩
    have hW : Hl g σ2 H locs := by rw [hσ2]; exact hW
    have w2 : σ2 ba = some (eL g (4 * n) (va_up f (4 * t + (x / 64)) (lset (f (4 * t + x / 64)) x))) := by rw [hσ2]; exact sset_eq
    have f3 : σ2 h = some (.inr (14, [.int (nI st), .ref ba])) := by rw [hσ2, sset_ne (sto_ne eb e0 (by simp))]; exact e0
    refine lv_iload_n F.x F.cd dX11_add_34 rfl (lv_at hl 0 rfl) ?_
    subst hQ
    exact s_reti (v := (bI (!lbit (f (4 * t + x / 64)) x))) F hW (nar_bI _) (⟨rfl, hσ2⟩) ⟨(Nat.le_of_ble_eq_true rfl), (Nat.le_of_ble_eq_true rfl)⟩ dX11_add_35
  · refine lv_iconst (v := (nI 1)) F.x F.cd dX11_add_9 (by decide) ?_
    refine lv_goto (tgt := 14) F.x F.cd dX11_add_10 (by decide) ?_
    refine W.eq (g2 := F0 m_ 14 ls (.int (bI (!lbit (f (4 * t + x / 64)) x)) :: [])) (by rw [show (!lbit (f (4 * t + x / 64)) x) = true by rw [c_6]; rfl]; rfl) ?_
    refine lv_istore_n (lv' := [(3, .int (bI (!lbit (f (4 * t + x / 64)) x))), (0, .ref h), (1, .int (nI t)), (2, .int (nI x))]) F.x F.cd dX11_add_14 rfl hl (by decide) rfl (fun ls hl => ?_)
    refine lv_aload_n F.x F.cd dX11_add_15 rfl (lv_at hl 1 rfl) ?_
    refine s_get F hW (ci := 14) (C := RX11) (T := TX11) (N := 2) (v := .ref ba) (e0) rfl in_X11 1 (by decide) q869 (fun _ h9 => h9) rfl dX11_add_16 ?_
    refine lv_iconst (v := (nI 4)) F.x F.cd dX11_add_19 (by decide) ?_
    refine lv_iload_n F.x F.cd dX11_add_20 rfl (lv_at hl 2 rfl) ?_
    refine a_imul (v := (nI (4 * t))) F (pk_mul _ _) dX11_add_21 ?_
    refine lv_iload_n F.x F.cd dX11_add_22 rfl (lv_at hl 3 rfl) ?_
    refine lv_bipush (v := (nI 64)) F.x F.cd dX11_add_23 (by decide) ?_
    refine a_idiv (v := (nI (x / 64))) F (pk_div (by omega) (by omega) (by omega)) (by decide) dX11_add_25 ?_
    refine a_iadd (v := (nI (4 * t + (x / 64)))) F (nI_add _ _) dX11_add_26 ?_
    refine lv_dup2_11 F.x F.cd dX11_add_27 rfl rfl ?_
    refine n_lald (i := 4 * t + (x / 64)) (n := 4 * n) (f := f) (x := (f (4 * t + (x / 64)))) F hW (eb) (by omega) (by omega) (rfl) dX11_add_28 ?_
    refine lv_lconst (v := (1 : Int64)) F.x F.cd dX11_add_29 (by decide) ?_
    refine lv_iload_n F.x F.cd dX11_add_30 rfl (lv_at hl 3 rfl) ?_
    refine lv_lshl (v := ((1 : Int64) <<< (Int32.toInt64 (nI x) &&& 63))) F.x F.cd dX11_add_31 (rfl) ?_
    refine a_lor (v := (lset (f (4 * t + x / 64)) x)) F (rfl) dX11_add_32 ?_
    refine n_last (i := 4 * t + (x / 64)) F hW (eb) (bb) (by omega) (by omega) dX11_add_33 (fun H locs hW => ?_)
    obtain ⟨σ4, hσ4⟩ : ∃ z, z = sset σ ba (eL g (4 * n) (va_up f (4 * t + (x / 64)) (lset (f (4 * t + x / 64)) x))) := ⟨_, rfl⟩
    have hW : Hl g σ4 H locs := by rw [hσ4]; exact hW
    have w4 : σ4 ba = some (eL g (4 * n) (va_up f (4 * t + (x / 64)) (lset (f (4 * t + x / 64)) x))) := by rw [hσ4]; exact sset_eq
    have f5 : σ4 h = some (.inr (14, [.int (nI st), .ref ba])) := by rw [hσ4, sset_ne (sto_ne eb e0 (by simp))]; exact e0
    refine lv_iload_n F.x F.cd dX11_add_34 rfl (lv_at hl 0 rfl) ?_
    subst hQ
    exact s_reti (v := (bI (!lbit (f (4 * t + x / 64)) x))) F hW (nar_bI _) (⟨rfl, hσ4⟩) ⟨(Nat.le_of_ble_eq_true rfl), (Nat.le_of_ble_eq_true rfl)⟩ dX11_add_35
