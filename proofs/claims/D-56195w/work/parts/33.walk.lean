/-! ===== Walk ===== -/
set_option maxRecDepth 100000
theorem oth_lt {a b t n : Nat} (ha : a < n) (hb : b < n) : oth a b t < n := by
  unfold oth; split <;> assumption
set_option maxHeartbeats 4000000 in
theorem k_X9_init (g : Gh) (l : Launch) (σ : Sto) (h w s : Nat) (c : Int32) (e0 : σ h = some (.inr (12, [.null, .int (nI 0), .int (nI 0), .null]))) (b0 : gB g ≤ h) : Ct g l yX9_init cX9_init 4 none ({ frames := 1, cells := 1, slots := 8, locals := 24 } : Room) [.ref h, .ref w, .int (nI s), .int c] σ (fun r σ' => r = none ∧ ∃ ar, σ ar = none ∧ gB g ≤ ar ∧ σ' h = some (.inr (12, [.ref ar, .int (nI s), .int c, .ref w])) ∧ σ' ar = some (eI g 2 8 (fun j => bI ((fun _ => false) j))) ∧ Ex1 σ σ' h) (nox) := by
  refine Ct.body (by decide) (Nat.le_of_ble_eq_true rfl) ?_
  intro p_ e_ s_ m_ args_ below_ meth_ c_ ls H locs Q F hW hl hQ
  have hl : lv_has ls 4 [(0, .ref h), (1, .ref w), (2, .int (nI s)), (3, .int c)] := hl
  refine lv_aload_n F.x F.cd dX9_init_0 rfl (lv_at hl 0 rfl) ?_
  refine lv_aload_n F.x F.cd dX9_init_1 rfl (lv_at hl 1 rfl) ?_
  refine s_putF F hW (ci := 12) (C := RX9) (T := TX9) (N := 4) (v := .ref w) (ty := (.object "FilterWaterworks$Works")) (e0) (b0) rfl in_X9 tyX9_ok nmX9 3 (by decide) q305 (fun _ h9 => h9) rfl rfl (by decide +kernel) rfl rfl (Nat.le_of_ble_eq_true rfl) dX9_init_2 (fun H locs hW => ?_)
  obtain ⟨σ2, hσ2⟩ : ∃ z, z = sset σ h (.inr (12, [.null, .int (nI 0), .int (nI 0), .ref w])) := ⟨_, rfl⟩
  have hW : Hl g σ2 H locs := by rw [hσ2]; exact hW
  have w2 : σ2 h = some (.inr (12, [.null, .int (nI 0), .int (nI 0), .ref w])) := by rw [hσ2]; exact sset_eq
  refine lv_aload_n F.x F.cd dX9_init_5 rfl (lv_at hl 0 rfl) ?_
  refine W.objInit F.x F.cd F.ow (F.ts _ q300) (F.ts _ q123) (F.ts _ q124) rfl (by rw [F.ml]; exact hl.1) rfl dX9_init_6 (Nat.le_of_ble_eq_true rfl) (Nat.le_of_ble_eq_true rfl) ?_
  refine W.eq (g2 := F0 m_ 9 ls ([])) rfl ?_
  refine lv_aload_n F.x F.cd dX9_init_9 rfl (lv_at hl 0 rfl) ?_
  refine lv_bipush (v := (nI 8)) F.x F.cd dX9_init_10 (by decide) ?_
  refine s_newa F hW 2 (N := 8) (atype := .boolean) (ty := .boolean) rfl rfl rfl q315 (8, .inl (fun _ => 0)) rfl (nI_pos (by omega)) (nI_clamp (by omega)) (by show _ * 1 ≤ _; omega) (Nat.le_of_ble_eq_true rfl) (Nat.le_of_ble_eq_true rfl) dX9_init_12 (fun q3_ H hb_q3_ hn_q3_ hW => ?_)
  obtain ⟨σ4, hσ4⟩ : ∃ z, z = sset σ2 q3_ (eI g 2 8 (fun x9 => nI ((fun _ => 0) x9))) := ⟨_, rfl⟩
  have hW : Hl g σ4 H locs := by rw [hσ4]; exact hW
  have w4 : σ4 q3_ = some (eI g 2 8 (fun x9 => nI ((fun _ => 0) x9))) := by rw [hσ4]; exact sset_eq
  have f5 : σ4 h = some (.inr (12, [.null, .int (nI 0), .int (nI 0), .ref w])) := by rw [hσ4, sset_ne (sto_ne0 hn_q3_ w2)]; exact w2
  have hq9 : q3_ ≠ h := fun e9 => by
    have h9 := hn_q3_
    rw [e9, w2] at h9
    cases h9
  have hn9 : σ q3_ = none := by
    have h9 := hn_q3_
    rw [hσ2, sset_ne hq9] at h9
    exact h9
  refine s_putF F hW (ci := 12) (C := RX9) (T := TX9) (N := 4) (v := .ref q3_) (ty := (.array .boolean)) (f5) (b0) rfl in_X9 tyX9_ok nmX9 0 (by decide) q301 (fun _ h9 => h9) rfl rfl (by decide +kernel) rfl rfl (Nat.le_of_ble_eq_true rfl) dX9_init_14 (fun H locs hW => ?_)
  obtain ⟨σ7, hσ7⟩ : ∃ z, z = sset σ4 h (.inr (12, [.ref q3_, .int (nI 0), .int (nI 0), .ref w])) := ⟨_, rfl⟩
  have hW : Hl g σ7 H locs := by rw [hσ7]; exact hW
  have w7 : σ7 h = some (.inr (12, [.ref q3_, .int (nI 0), .int (nI 0), .ref w])) := by rw [hσ7]; exact sset_eq
  have f8 : σ7 q3_ = some (eI g 2 8 (fun x9 => nI ((fun _ => 0) x9))) := by rw [hσ7, sset_ne (Ne.symm (sto_ne0 hn_q3_ w2))]; exact w4
  refine lv_aload_n F.x F.cd dX9_init_17 rfl (lv_at hl 0 rfl) ?_
  refine lv_iload_n F.x F.cd dX9_init_18 rfl (lv_at hl 2 rfl) ?_
  refine s_putF F hW (ci := 12) (C := RX9) (T := TX9) (N := 4) (v := .int (nI s)) (ty := .int) (w7) (b0) rfl in_X9 tyX9_ok nmX9 1 (by decide) q303 (fun _ h9 => h9) rfl rfl (by decide +kernel) rfl rfl (Nat.le_of_ble_eq_true rfl) dX9_init_19 (fun H locs hW => ?_)
  obtain ⟨σ10, hσ10⟩ : ∃ z, z = sset σ7 h (.inr (12, [.ref q3_, .int (nI s), .int (nI 0), .ref w])) := ⟨_, rfl⟩
  have hW : Hl g σ10 H locs := by rw [hσ10]; exact hW
  have w10 : σ10 h = some (.inr (12, [.ref q3_, .int (nI s), .int (nI 0), .ref w])) := by rw [hσ10]; exact sset_eq
  have f11 : σ10 q3_ = some (eI g 2 8 (fun x9 => nI ((fun _ => 0) x9))) := by rw [hσ10, sset_ne (Ne.symm (sto_ne0 hn_q3_ w2))]; exact f8
  refine lv_aload_n F.x F.cd dX9_init_22 rfl (lv_at hl 0 rfl) ?_
  refine lv_iload_n F.x F.cd dX9_init_23 rfl (lv_at hl 3 rfl) ?_
  refine s_putF F hW (ci := 12) (C := RX9) (T := TX9) (N := 4) (v := .int c) (ty := .int) (w10) (b0) rfl in_X9 tyX9_ok nmX9 2 (by decide) q304 (fun _ h9 => h9) rfl rfl (by decide +kernel) rfl rfl (Nat.le_of_ble_eq_true rfl) dX9_init_24 (fun H locs hW => ?_)
  obtain ⟨σ13, hσ13⟩ : ∃ z, z = sset σ10 h (.inr (12, [.ref q3_, .int (nI s), .int c, .ref w])) := ⟨_, rfl⟩
  have hW : Hl g σ13 H locs := by rw [hσ13]; exact hW
  have w13 : σ13 h = some (.inr (12, [.ref q3_, .int (nI s), .int c, .ref w])) := by rw [hσ13]; exact sset_eq
  have f14 : σ13 q3_ = some (eI g 2 8 (fun x9 => nI ((fun _ => 0) x9))) := by rw [hσ13, sset_ne (Ne.symm (sto_ne0 hn_q3_ w2))]; exact f11
  subst hQ
  exact s_retv F hW (⟨rfl, q3_, hn9, hb_q3_, w13, (by rw [f14]; rfl), by rw [hσ13, hσ10, hσ7, hσ4, hσ2]; exact (((((Ex1.refl.self).new hn9).self).self).self)⟩) ⟨(Nat.le_of_ble_eq_true rfl), (Nat.le_of_ble_eq_true rfl)⟩ dX9_init_27
set_option maxHeartbeats 4000000 in
theorem k_X9_from_1 (g : Gh) (l : Launch) (σ : Sto) (L v : Nat → Nat) (h ar s t : Nat) (c : Int32) (B : Nat → Bool) (hWk : IsWorks g σ L v) (hI : Inv v) (e0 : σ h = some (.inr (12, [.ref ar, .int (nI s), .int c, .ref (L 0)]))) (ea : σ ar = some (eI g 2 8 (fun j => bI (B j)))) (ba : gB g ≤ ar) (hs : s < 2 ^ 30) (ht : t < v 0) (hR : B t = false) (hun : unv B ≤ 1) : Ct g l yX9_from cX9_from 5 none ({ frames := 3, cells := 0, slots := 0, locals := 64 } : Room) [.ref h, .int (nI t)] σ (fun r σ' => r = none ∧ ∃ R' : Nat → Bool, σ' = sset σ ar (eI g 2 8 (fun j => bI (R' j))) ∧ WP v s c B t R') (nox) := by
  refine Ct.body (by decide) (Nat.le_of_ble_eq_true rfl) ?_
  intro p_ e_ s_ m_ args_ below_ meth_ c_ ls H locs Q F hW hl hQ
  have hl : lv_has ls 5 [(0, .ref h), (1, .int (nI t))] := hl
  have hT := hWk.2.2.1
  have hP := hWk.2.2.2.1
  obtain ⟨mcT, nT, fT, eT, bT, -⟩ := id hT
  obtain ⟨mcP, nP, fP, eP, bP, -⟩ := id hP
  have hv0 := hI.1
  have hv1 := hI.2.1
  refine lv_aload_n F.x F.cd dX9_from_0 rfl (lv_at hl 0 rfl) ?_
  refine s_get F hW (ci := 12) (C := RX9) (T := TX9) (N := 4) (v := .ref ar) (e0) rfl in_X9 0 (by decide) q301 (fun _ h9 => h9) rfl dX9_from_1 ?_
  refine lv_iload_n F.x F.cd dX9_from_4 rfl (lv_at hl 1 rfl) ?_
  refine lv_iconst (v := (nI 1)) F.x F.cd dX9_from_5 (by decide) ?_
  refine n_zast (i := t) F hW (ea) (ba) (by omega) (by omega) (show narrow .boolean (.int (nI 1)) = .int (nI 1) by decide) dX9_from_6 (fun H locs hW => ?_)
  obtain ⟨σ1, hσ1⟩ : ∃ z, z = sset σ ar (eI g 2 8 (upd (fun x9 => bI (B x9)) t (nI 1))) := ⟨_, rfl⟩
  have hW : Hl g σ1 H locs := by rw [hσ1]; exact hW
  have w1 : σ1 ar = some (eI g 2 8 (upd (fun x9 => bI (B x9)) t (nI 1))) := by rw [hσ1]; exact sset_eq
  have f2 : σ1 (L 0) = some (.inr (1, [.ref (L 1), .ref (L 2), .int (nI (v 2)), .int (nI (v 3)), .int (nI (v 4)), .int (nI (v 5))])) := by rw [hσ1, sset_ne (sto_ne ea hWk.1 (by simp))]; exact hWk.1
  have f3 : σ1 (L 1) = some (.inr (2, [.int mcT, .ref (L 3), .int (nI (v 0))])) := by rw [hσ1, sset_ne (sto_ne ea eT (by simp))]; exact eT
  have j4 := IsList.setI (e := eI g 2 8 (upd (fun x9 => bI (B x9)) t (nI 1))) (hT) (ea)
  rw [← hσ1] at j4
  have f5 : σ1 (L 2) = some (.inr (2, [.int mcP, .ref (L 4), .int (nI (v 1))])) := by rw [hσ1, sset_ne (sto_ne ea eP (by simp))]; exact eP
  have j6 := IsList.setI (e := eI g 2 8 (upd (fun x9 => bI (B x9)) t (nI 1))) (hP) (ea)
  rw [← hσ1] at j6
  have f7 : σ1 h = some (.inr (12, [.ref ar, .int (nI s), .int c, .ref (L 0)])) := by rw [hσ1, sset_ne (sto_ne ea e0 (by simp))]; exact e0
  have hσ0 : σ1 = sset σ ar (eI g 2 8 (fun j => bI (va_up B t true j))) := by rw [hσ1, updB]
  refine lv_iconst (v := (nI 0)) F.x F.cd dX9_from_7 (by decide) ?_
  refine lv_istore_n (lv' := [(2, .int (nI 0)), (0, .ref h), (1, .int (nI t))]) F.x F.cd dX9_from_8 rfl hl (by decide) rfl (fun ls hl => ?_)
  have loop9 : ∀ (n : Nat) (k : Nat) (σk : Sto) (Bk : Nat → Bool), k + n = v 1 → (σk = sset σ ar (eI g 2 8 (fun j => bI (Bk j)))) → WI v s c B t Bk k → ∀ (H : Heap) (locs : List Loc) (ls : Array Slot), Hl g σk H locs → lv_has ls 5 [(0, .ref h), (1, .int (nI t)), (2, .int (nI k))] → W p_ l e_ ({ frames := 3, cells := 0, slots := 0, locals := 64 } : Room) s_ m_ args_ below_ meth_ c_ H locs 0 0 Q (F0 m_ 9 ls ([])) := by
    intro n
    induction n with
    | zero =>
      intro k σk Bk hkn hσk hWI H locs ls hW hl
      have hWn : IsWorks g σk L v := by rw [hσk]; exact hWk.setI ea
      have e0n : σk h = some (.inr (12, [.ref ar, .int (nI s), .int c, .ref (L 0)])) := by rw [hσk, sset_ne (sto_ne ea e0 (by simp))]; exact e0
      have ean : σk ar = some (eI g 2 8 (fun j => bI (Bk j))) := by rw [hσk, sset_eq]
      have hT_k := hWn.2.2.1
      have hP_k := hWn.2.2.2.1
      obtain ⟨mcT_k, nT_k, fT_k, eT_k, bT_k, -⟩ := id hT_k
      obtain ⟨mcP_k, nP_k, fP_k, eP_k, bP_k, -⟩ := id hP_k
      have hv0_k := hI.1
      have hv1_k := hI.2.1
      refine lv_iload_n F.x F.cd dX9_from_9 rfl (lv_at hl 2 rfl) ?_
      refine lv_aload_n F.x F.cd dX9_from_10 rfl (lv_at hl 0 rfl) ?_
      refine s_get F hW (ci := 12) (C := RX9) (T := TX9) (N := 4) (v := .ref (L 0)) (e0n) rfl in_X9 3 (by decide) q305 (fun _ h9 => h9) rfl dX9_from_11 ?_
      refine s_getN F hW (ci := 1) (C := RX2) (T := TX2) (N := 6) (v := .ref (L 2)) (hWn.1) rfl in_X2 1 (by decide) q163 (fun _ h9 => h9) rfl dX9_from_14 ?_
      refine s_callF (As := []) (rest := [.int (nI k)]) (C := RJ2) (T := TJ2) (N := 3) (n := 0) F hW (k_J2_size g l σk _ _ _ _ hP_k) (eP_k) rfl (List.mem_of_getElem? (i := 0) rfl) q323 q272 q274 q72 q276 (by decide +kernel) rfl ⟨⟨Nat.le_of_ble_eq_true rfl, Nat.le_of_ble_eq_true rfl⟩, ⟨(Nat.le_of_ble_eq_true rfl), (Nat.le_of_ble_eq_true rfl)⟩⟩ (Nat.le_of_ble_eq_true rfl) hl.1 rfl dX9_from_17 cX_no (fun r8 σ8 H locs hp8 hW => ?_)
      obtain ⟨rfl, hs8⟩ := hp8
      rw [hs8] at hW
      refine W.eq (g2 := F0 m_ 22 ls (.int (nI (v 1)) :: .int (nI k) :: [])) rfl ?_
      refine n_icmp_ge (a := k) (b := v 1) (tgt := 116) F (by omega) (by omega) dX9_from_22 (by decide) (fun c_22 => ?_) (fun c_22 => ?_)
      · subst hQ
        exact s_retv F hW (⟨rfl, Bk, hσk, WI.done hI (by rw [← show k = v 1 by omega]; exact hWI)⟩) ⟨(Nat.le_of_ble_eq_true rfl), (Nat.le_of_ble_eq_true rfl)⟩ dX9_from_116
      · exact absurd c_22 (by omega)
    | succ n ih9 =>
      intro k σk Bk hkn hσk hWI H locs ls hW hl
      have hWn : IsWorks g σk L v := by rw [hσk]; exact hWk.setI ea
      have e0n : σk h = some (.inr (12, [.ref ar, .int (nI s), .int c, .ref (L 0)])) := by rw [hσk, sset_ne (sto_ne ea e0 (by simp))]; exact e0
      have ean : σk ar = some (eI g 2 8 (fun j => bI (Bk j))) := by rw [hσk, sset_eq]
      have hT_k := hWn.2.2.1
      have hP_k := hWn.2.2.2.1
      obtain ⟨mcT_k, nT_k, fT_k, eT_k, bT_k, -⟩ := id hT_k
      obtain ⟨mcP_k, nP_k, fP_k, eP_k, bP_k, -⟩ := id hP_k
      have hv0_k := hI.1
      have hv1_k := hI.2.1
      refine lv_iload_n F.x F.cd dX9_from_9 rfl (lv_at hl 2 rfl) ?_
      refine lv_aload_n F.x F.cd dX9_from_10 rfl (lv_at hl 0 rfl) ?_
      refine s_get F hW (ci := 12) (C := RX9) (T := TX9) (N := 4) (v := .ref (L 0)) (e0n) rfl in_X9 3 (by decide) q305 (fun _ h9 => h9) rfl dX9_from_11 ?_
      refine s_getN F hW (ci := 1) (C := RX2) (T := TX2) (N := 6) (v := .ref (L 2)) (hWn.1) rfl in_X2 1 (by decide) q163 (fun _ h9 => h9) rfl dX9_from_14 ?_
      refine s_callF (As := []) (rest := [.int (nI k)]) (C := RJ2) (T := TJ2) (N := 3) (n := 0) F hW (k_J2_size g l σk _ _ _ _ hP_k) (eP_k) rfl (List.mem_of_getElem? (i := 0) rfl) q323 q272 q274 q72 q276 (by decide +kernel) rfl ⟨⟨Nat.le_of_ble_eq_true rfl, Nat.le_of_ble_eq_true rfl⟩, ⟨(Nat.le_of_ble_eq_true rfl), (Nat.le_of_ble_eq_true rfl)⟩⟩ (Nat.le_of_ble_eq_true rfl) hl.1 rfl dX9_from_17 cX_no (fun r9 σ9 H locs hp9 hW => ?_)
      obtain ⟨rfl, hs9⟩ := hp9
      rw [hs9] at hW
      refine W.eq (g2 := F0 m_ 22 ls (.int (nI (v 1)) :: .int (nI k) :: [])) rfl ?_
      refine n_icmp_ge (a := k) (b := v 1) (tgt := 116) F (by omega) (by omega) dX9_from_22 (by decide) (fun c_22 => ?_) (fun c_22 => ?_)
      · exact absurd c_22 (by omega)
      · have hpq := hI.pp (q := k) (by omega)
        refine lv_aload_n F.x F.cd dX9_from_25 rfl (lv_at hl 0 rfl) ?_
        refine s_get F hW (ci := 12) (C := RX9) (T := TX9) (N := 4) (v := .ref (L 0)) (e0n) rfl in_X9 3 (by decide) q305 (fun _ h9 => h9) rfl dX9_from_26 ?_
        refine s_getN F hW (ci := 1) (C := RX2) (T := TX2) (N := 6) (v := .ref (L 2)) (hWn.1) rfl in_X2 1 (by decide) q163 (fun _ h9 => h9) rfl dX9_from_29 ?_
        refine lv_iload_n F.x F.cd dX9_from_32 rfl (lv_at hl 2 rfl) ?_
        refine s_callF (As := [.int (nI k)]) (rest := []) (C := RJ2) (T := TJ2) (N := 3) (n := 1) F hW (k_J2_get g l σk _ _ _ _ k hP_k (by omega)) (eP_k) rfl (List.mem_of_getElem? (i := 1) rfl) q325 q328 q330 q72 q332 (by decide +kernel) rfl ⟨⟨Nat.le_of_ble_eq_true rfl, Nat.le_of_ble_eq_true rfl⟩, ⟨(Nat.le_of_ble_eq_true rfl), (Nat.le_of_ble_eq_true rfl)⟩⟩ (Nat.le_of_ble_eq_true rfl) hl.1 rfl dX9_from_33 cX_no (fun r10 σ10 H locs hp10 hW => ?_)
        obtain ⟨rfl, hs10⟩ := hp10
        rw [hs10] at hW
        refine W.eq (g2 := F0 m_ 38 ls (.ref (L (100 + k)) :: [])) rfl ?_
        refine s_cast_ F hW (C := RX5) (T := TX5) (N := 7) ((hWn.2.2.2.2.2.1 k (by omega)).1) rfl q670 dX9_from_38 ?_
        refine lv_astore_n (lv' := [(3, .ref (L (100 + k))), (0, .ref h), (1, .int (nI t)), (2, .int (nI k))]) F.x F.cd dX9_from_41 rfl hl (by decide) rfl (fun ls hl => ?_)
        refine lv_iload_n F.x F.cd dX9_from_42 rfl (lv_at hl 3 rfl) ?_
        refine lv_aload_n F.x F.cd dX9_from_43 rfl (lv_at hl 1 rfl) ?_
        refine s_get F hW (ci := 12) (C := RX9) (T := TX9) (N := 4) (v := .int c) (e0n) rfl in_X9 2 (by decide) q304 (fun _ h9 => h9) rfl dX9_from_44 ?_
        refine lv_icmp_eq (x := (nI k)) (y := c) (tgt := 72) F.x F.cd dX9_from_47 (by decide) (fun c_47 => ?_) (fun c_47 => ?_)
        · refine lv_iconst (v := (nI 0)) F.x F.cd dX9_from_72 (by decide) ?_
          refine W.eq (g2 := F0 m_ 73 ls (.int (bI (use v s c k)) :: [])) (by rw [show use v s c k = false by first | (simp [use, c_47]; done) | (simp [use, c_47]; omega)]; rfl) ?_
          refine lv_istore (lv' := [(4, .int (bI (use v s c k))), (3, .ref (L (100 + k))), (0, .ref h), (1, .int (nI t)), (2, .int (nI k))]) F.x F.cd dX9_from_73 hl (by decide) rfl (fun ls hl => ?_)
          refine lv_iload F.x F.cd dX9_from_75 (lv_at hl 0 rfl) ?_
          refine b_if_eq (b := (use v s c k)) (tgt := 110) F dX9_from_77 (by decide) (fun c_77 => ?_) (fun c_77 => ?_)
          · refine lv_iinc (k := 4) (v := (nI (k + 1))) (lv' := [(2, .int (nI (k + 1))), (4, .int (bI (use v s c k))), (3, .ref (L (100 + k))), (0, .ref h), (1, .int (nI t))]) F.x F.cd dX9_from_110 hl rfl (inc_nI k 1) (by decide) rfl (fun ls hl => ?_)
            refine lv_goto (tgt := 9) F.x F.cd dX9_from_113 (by decide) ?_
            exact ih9 (k + 1) σk Bk (by omega) (hσk) (hWI.skip (Or.inl c_77)) H locs ls hW (lv_sub hl [3, 4, 0] rfl)
          · refine lv_aload_n F.x F.cd dX9_from_80 rfl (lv_at hl 1 rfl) ?_
            refine lv_iload_n F.x F.cd dX9_from_81 rfl (lv_at hl 3 rfl) ?_
            refine s_callV (As := [.int (nI t)]) (rest := []) (C := RX5) (T := TX5) (N := 7) (n := 1) F hW (k_X5_touches g l σk (L (100 + k)) (pA v k) (pB v k) (pM v k) (pV v k) (pR v k) (pD v k) (pL v k) t ((hWn.2.2.2.2.2.1 k (by omega)).1) (by omega) (by omega) (by omega)) ((hWn.2.2.2.2.2.1 k (by omega)).1) rfl q675 q676 q677 q96 q678 rfl (by decide +kernel) rfl ⟨⟨Nat.le_of_ble_eq_true rfl, Nat.le_of_ble_eq_true rfl⟩, ⟨(Nat.le_of_ble_eq_true rfl), (Nat.le_of_ble_eq_true rfl)⟩⟩ (Nat.le_of_ble_eq_true rfl) hl.1 rfl dX9_from_82 cX_no (fun r11 σ11 H locs hp11 hW => ?_)
            obtain ⟨rfl, hs11⟩ := hp11
            rw [hs11] at hW
            refine W.eq (g2 := F0 m_ 85 ls (.int (bI (tch (pA v k) (pB v k) t)) :: [])) rfl ?_
            refine b_if_eq (b := (tch (pA v k) (pB v k) t)) (tgt := 110) F dX9_from_85 (by decide) (fun c_85 => ?_) (fun c_85 => ?_)
            · refine lv_iinc (k := 4) (v := (nI (k + 1))) (lv' := [(2, .int (nI (k + 1))), (4, .int (bI (use v s c k))), (3, .ref (L (100 + k))), (0, .ref h), (1, .int (nI t))]) F.x F.cd dX9_from_110 hl rfl (inc_nI k 1) (by decide) rfl (fun ls hl => ?_)
              refine lv_goto (tgt := 9) F.x F.cd dX9_from_113 (by decide) ?_
              exact ih9 (k + 1) σk Bk (by omega) (hσk) (hWI.skip (Or.inr (Or.inl c_85))) H locs ls hW (lv_sub hl [3, 4, 0] rfl)
            · refine lv_aload_n F.x F.cd dX9_from_88 rfl (lv_at hl 2 rfl) ?_
              refine s_get F hW (ci := 12) (C := RX9) (T := TX9) (N := 4) (v := .ref ar) (e0n) rfl in_X9 0 (by decide) q301 (fun _ h9 => h9) rfl dX9_from_89 ?_
              refine lv_aload_n F.x F.cd dX9_from_92 rfl (lv_at hl 1 rfl) ?_
              refine lv_iload_n F.x F.cd dX9_from_93 rfl (lv_at hl 3 rfl) ?_
              refine s_callV (As := [.int (nI t)]) (rest := [.ref ar]) (C := RX5) (T := TX5) (N := 7) (n := 1) F hW (k_X5_otherEnd g l σk (L (100 + k)) (pA v k) (pB v k) (pM v k) (pV v k) (pR v k) (pD v k) (pL v k) t ((hWn.2.2.2.2.2.1 k (by omega)).1) (by omega) (by omega)) ((hWn.2.2.2.2.2.1 k (by omega)).1) rfl q679 q680 q681 q96 q682 rfl (by decide +kernel) rfl ⟨⟨Nat.le_of_ble_eq_true rfl, Nat.le_of_ble_eq_true rfl⟩, ⟨(Nat.le_of_ble_eq_true rfl), (Nat.le_of_ble_eq_true rfl)⟩⟩ (Nat.le_of_ble_eq_true rfl) hl.1 rfl dX9_from_94 cX_no (fun r12 σ12 H locs hp12 hW => ?_)
              obtain ⟨rfl, hs12⟩ := hp12
              rw [hs12] at hW
              refine W.eq (g2 := F0 m_ 97 ls (.int (nI (oth (pA v k) (pB v k) t)) :: .ref ar :: [])) rfl ?_
              refine n_zald (i := oth (pA v k) (pB v k) t) (n := 8) (f := (fun x9 => bI (Bk x9))) (x := (bI (Bk (oth (pA v k) (pB v k) t)))) F hW (ean) (Nat.lt_of_lt_of_le (oth_lt hpq.1 hpq.2.1) hI.1) (by omega) (rfl) dX9_from_97 ?_
              refine b_if_ne (b := (Bk (oth (pA v k) (pB v k) t))) (tgt := 110) F dX9_from_98 (by decide) (fun c_98 => ?_) (fun c_98 => ?_)
              · refine lv_iinc (k := 4) (v := (nI (k + 1))) (lv' := [(2, .int (nI (k + 1))), (4, .int (bI (use v s c k))), (3, .ref (L (100 + k))), (0, .ref h), (1, .int (nI t))]) F.x F.cd dX9_from_110 hl rfl (inc_nI k 1) (by decide) rfl (fun ls hl => ?_)
                refine lv_goto (tgt := 9) F.x F.cd dX9_from_113 (by decide) ?_
                exact ih9 (k + 1) σk Bk (by omega) (hσk) (hWI.skip (Or.inr (Or.inr c_98))) H locs ls hW (lv_sub hl [3, 4, 0] rfl)
              · refine lv_aload_n F.x F.cd dX9_from_101 rfl (lv_at hl 2 rfl) ?_
                refine lv_aload_n F.x F.cd dX9_from_102 rfl (lv_at hl 1 rfl) ?_
                refine lv_iload_n F.x F.cd dX9_from_103 rfl (lv_at hl 3 rfl) ?_
                refine s_callV (As := [.int (nI t)]) (rest := [.ref h]) (C := RX5) (T := TX5) (N := 7) (n := 1) F hW (k_X5_otherEnd g l σk (L (100 + k)) (pA v k) (pB v k) (pM v k) (pV v k) (pR v k) (pD v k) (pL v k) t ((hWn.2.2.2.2.2.1 k (by omega)).1) (by omega) (by omega)) ((hWn.2.2.2.2.2.1 k (by omega)).1) rfl q679 q680 q681 q96 q682 rfl (by decide +kernel) rfl ⟨⟨Nat.le_of_ble_eq_true rfl, Nat.le_of_ble_eq_true rfl⟩, ⟨(Nat.le_of_ble_eq_true rfl), (Nat.le_of_ble_eq_true rfl)⟩⟩ (Nat.le_of_ble_eq_true rfl) hl.1 rfl dX9_from_104 cX_no (fun r13 σ13 H locs hp13 hW => ?_)
                obtain ⟨rfl, hs13⟩ := hp13
                rw [hs13] at hW
                refine W.eq (g2 := F0 m_ 107 ls (.int (nI (oth (pA v k) (pB v k) t)) :: .ref h :: [])) rfl ?_
                exact absurd (unvN_0 (R := Bk) 8 (by have := unvN_lt hWI.2.1 hR hWI.1 8 (by omega); unfold unv at hun; omega) _ (Nat.lt_of_lt_of_le (oth_lt hpq.1 hpq.2.1) hI.1)) (by rw [c_98]; decide)
        · refine lv_aload_n F.x F.cd dX9_from_50 rfl (lv_at hl 0 rfl) ?_
          refine s_callV (As := []) (rest := []) (C := RX5) (T := TX5) (N := 7) (n := 0) F hW (k_X5_isOpen g l σk (L (100 + k)) (pA v k) (pB v k) (pM v k) (pV v k) (pR v k) (pD v k) (pL v k) ((hWn.2.2.2.2.2.1 k (by omega)).1) (by omega) (by omega)) ((hWn.2.2.2.2.2.1 k (by omega)).1) rfl q671 q672 q673 q96 q674 rfl (by decide +kernel) rfl ⟨⟨Nat.le_of_ble_eq_true rfl, Nat.le_of_ble_eq_true rfl⟩, ⟨(Nat.le_of_ble_eq_true rfl), (Nat.le_of_ble_eq_true rfl)⟩⟩ (Nat.le_of_ble_eq_true rfl) hl.1 rfl dX9_from_51 cX_no (fun r14 σ14 H locs hp14 hW => ?_)
          obtain ⟨rfl, hs14⟩ := hp14
          rw [hs14] at hW
          refine W.eq (g2 := F0 m_ 54 ls (.int (bI (opn (pV v k) (pD v k))) :: [])) rfl ?_
          refine b_if_eq (b := (opn (pV v k) (pD v k))) (tgt := 72) F dX9_from_54 (by decide) (fun c_54 => ?_) (fun c_54 => ?_)
          · refine lv_iconst (v := (nI 0)) F.x F.cd dX9_from_72 (by decide) ?_
            refine W.eq (g2 := F0 m_ 73 ls (.int (bI (use v s c k)) :: [])) (by rw [show use v s c k = false by first | (simp [use, c_47, c_54]; done) | (simp [use, c_47, c_54]; omega)]; rfl) ?_
            refine lv_istore (lv' := [(4, .int (bI (use v s c k))), (3, .ref (L (100 + k))), (0, .ref h), (1, .int (nI t)), (2, .int (nI k))]) F.x F.cd dX9_from_73 hl (by decide) rfl (fun ls hl => ?_)
            refine lv_iload F.x F.cd dX9_from_75 (lv_at hl 0 rfl) ?_
            refine b_if_eq (b := (use v s c k)) (tgt := 110) F dX9_from_77 (by decide) (fun c_77 => ?_) (fun c_77 => ?_)
            · refine lv_iinc (k := 4) (v := (nI (k + 1))) (lv' := [(2, .int (nI (k + 1))), (4, .int (bI (use v s c k))), (3, .ref (L (100 + k))), (0, .ref h), (1, .int (nI t))]) F.x F.cd dX9_from_110 hl rfl (inc_nI k 1) (by decide) rfl (fun ls hl => ?_)
              refine lv_goto (tgt := 9) F.x F.cd dX9_from_113 (by decide) ?_
              exact ih9 (k + 1) σk Bk (by omega) (hσk) (hWI.skip (Or.inl c_77)) H locs ls hW (lv_sub hl [3, 4, 0] rfl)
            · refine lv_aload_n F.x F.cd dX9_from_80 rfl (lv_at hl 1 rfl) ?_
              refine lv_iload_n F.x F.cd dX9_from_81 rfl (lv_at hl 3 rfl) ?_
              refine s_callV (As := [.int (nI t)]) (rest := []) (C := RX5) (T := TX5) (N := 7) (n := 1) F hW (k_X5_touches g l σk (L (100 + k)) (pA v k) (pB v k) (pM v k) (pV v k) (pR v k) (pD v k) (pL v k) t ((hWn.2.2.2.2.2.1 k (by omega)).1) (by omega) (by omega) (by omega)) ((hWn.2.2.2.2.2.1 k (by omega)).1) rfl q675 q676 q677 q96 q678 rfl (by decide +kernel) rfl ⟨⟨Nat.le_of_ble_eq_true rfl, Nat.le_of_ble_eq_true rfl⟩, ⟨(Nat.le_of_ble_eq_true rfl), (Nat.le_of_ble_eq_true rfl)⟩⟩ (Nat.le_of_ble_eq_true rfl) hl.1 rfl dX9_from_82 cX_no (fun r15 σ15 H locs hp15 hW => ?_)
              obtain ⟨rfl, hs15⟩ := hp15
              rw [hs15] at hW
              refine W.eq (g2 := F0 m_ 85 ls (.int (bI (tch (pA v k) (pB v k) t)) :: [])) rfl ?_
              refine b_if_eq (b := (tch (pA v k) (pB v k) t)) (tgt := 110) F dX9_from_85 (by decide) (fun c_85 => ?_) (fun c_85 => ?_)
              · refine lv_iinc (k := 4) (v := (nI (k + 1))) (lv' := [(2, .int (nI (k + 1))), (4, .int (bI (use v s c k))), (3, .ref (L (100 + k))), (0, .ref h), (1, .int (nI t))]) F.x F.cd dX9_from_110 hl rfl (inc_nI k 1) (by decide) rfl (fun ls hl => ?_)
                refine lv_goto (tgt := 9) F.x F.cd dX9_from_113 (by decide) ?_
                exact ih9 (k + 1) σk Bk (by omega) (hσk) (hWI.skip (Or.inr (Or.inl c_85))) H locs ls hW (lv_sub hl [3, 4, 0] rfl)
              · refine lv_aload_n F.x F.cd dX9_from_88 rfl (lv_at hl 2 rfl) ?_
                refine s_get F hW (ci := 12) (C := RX9) (T := TX9) (N := 4) (v := .ref ar) (e0n) rfl in_X9 0 (by decide) q301 (fun _ h9 => h9) rfl dX9_from_89 ?_
                refine lv_aload_n F.x F.cd dX9_from_92 rfl (lv_at hl 1 rfl) ?_
                refine lv_iload_n F.x F.cd dX9_from_93 rfl (lv_at hl 3 rfl) ?_
                refine s_callV (As := [.int (nI t)]) (rest := [.ref ar]) (C := RX5) (T := TX5) (N := 7) (n := 1) F hW (k_X5_otherEnd g l σk (L (100 + k)) (pA v k) (pB v k) (pM v k) (pV v k) (pR v k) (pD v k) (pL v k) t ((hWn.2.2.2.2.2.1 k (by omega)).1) (by omega) (by omega)) ((hWn.2.2.2.2.2.1 k (by omega)).1) rfl q679 q680 q681 q96 q682 rfl (by decide +kernel) rfl ⟨⟨Nat.le_of_ble_eq_true rfl, Nat.le_of_ble_eq_true rfl⟩, ⟨(Nat.le_of_ble_eq_true rfl), (Nat.le_of_ble_eq_true rfl)⟩⟩ (Nat.le_of_ble_eq_true rfl) hl.1 rfl dX9_from_94 cX_no (fun r16 σ16 H locs hp16 hW => ?_)
                obtain ⟨rfl, hs16⟩ := hp16
                rw [hs16] at hW
                refine W.eq (g2 := F0 m_ 97 ls (.int (nI (oth (pA v k) (pB v k) t)) :: .ref ar :: [])) rfl ?_
                refine n_zald (i := oth (pA v k) (pB v k) t) (n := 8) (f := (fun x9 => bI (Bk x9))) (x := (bI (Bk (oth (pA v k) (pB v k) t)))) F hW (ean) (Nat.lt_of_lt_of_le (oth_lt hpq.1 hpq.2.1) hI.1) (by omega) (rfl) dX9_from_97 ?_
                refine b_if_ne (b := (Bk (oth (pA v k) (pB v k) t))) (tgt := 110) F dX9_from_98 (by decide) (fun c_98 => ?_) (fun c_98 => ?_)
                · refine lv_iinc (k := 4) (v := (nI (k + 1))) (lv' := [(2, .int (nI (k + 1))), (4, .int (bI (use v s c k))), (3, .ref (L (100 + k))), (0, .ref h), (1, .int (nI t))]) F.x F.cd dX9_from_110 hl rfl (inc_nI k 1) (by decide) rfl (fun ls hl => ?_)
                  refine lv_goto (tgt := 9) F.x F.cd dX9_from_113 (by decide) ?_
                  exact ih9 (k + 1) σk Bk (by omega) (hσk) (hWI.skip (Or.inr (Or.inr c_98))) H locs ls hW (lv_sub hl [3, 4, 0] rfl)
                · refine lv_aload_n F.x F.cd dX9_from_101 rfl (lv_at hl 2 rfl) ?_
                  refine lv_aload_n F.x F.cd dX9_from_102 rfl (lv_at hl 1 rfl) ?_
                  refine lv_iload_n F.x F.cd dX9_from_103 rfl (lv_at hl 3 rfl) ?_
                  refine s_callV (As := [.int (nI t)]) (rest := [.ref h]) (C := RX5) (T := TX5) (N := 7) (n := 1) F hW (k_X5_otherEnd g l σk (L (100 + k)) (pA v k) (pB v k) (pM v k) (pV v k) (pR v k) (pD v k) (pL v k) t ((hWn.2.2.2.2.2.1 k (by omega)).1) (by omega) (by omega)) ((hWn.2.2.2.2.2.1 k (by omega)).1) rfl q679 q680 q681 q96 q682 rfl (by decide +kernel) rfl ⟨⟨Nat.le_of_ble_eq_true rfl, Nat.le_of_ble_eq_true rfl⟩, ⟨(Nat.le_of_ble_eq_true rfl), (Nat.le_of_ble_eq_true rfl)⟩⟩ (Nat.le_of_ble_eq_true rfl) hl.1 rfl dX9_from_104 cX_no (fun r17 σ17 H locs hp17 hW => ?_)
                  obtain ⟨rfl, hs17⟩ := hp17
                  rw [hs17] at hW
                  refine W.eq (g2 := F0 m_ 107 ls (.int (nI (oth (pA v k) (pB v k) t)) :: .ref h :: [])) rfl ?_
                  exact absurd (unvN_0 (R := Bk) 8 (by have := unvN_lt hWI.2.1 hR hWI.1 8 (by omega); unfold unv at hun; omega) _ (Nat.lt_of_lt_of_le (oth_lt hpq.1 hpq.2.1) hI.1)) (by rw [c_98]; decide)
          · refine lv_aload_n F.x F.cd dX9_from_57 rfl (lv_at hl 0 rfl) ?_
            refine s_getN F hW (ci := 9) (C := RX5) (T := TX5) (N := 7) (v := .int (nI (pV v k))) ((hWn.2.2.2.2.2.1 k (by omega)).1) rfl in_X5 3 (by decide) q1078 (fun _ h9 => h9) rfl dX9_from_58 ?_
            refine lv_aload_n F.x F.cd dX9_from_61 rfl (lv_at hl 1 rfl) ?_
            refine s_get F hW (ci := 12) (C := RX9) (T := TX9) (N := 4) (v := .int (nI s)) (e0n) rfl in_X9 1 (by decide) q303 (fun _ h9 => h9) rfl dX9_from_62 ?_
            refine n_icmp_lt (a := pV v k) (b := s) (tgt := 72) F (by omega) (by omega) dX9_from_65 (by decide) (fun c_65 => ?_) (fun c_65 => ?_)
            · refine lv_iconst (v := (nI 0)) F.x F.cd dX9_from_72 (by decide) ?_
              refine W.eq (g2 := F0 m_ 73 ls (.int (bI (use v s c k)) :: [])) (by rw [show use v s c k = false by first | (simp [use, c_47, c_54, c_65]; done) | (simp [use, c_47, c_54, c_65]; omega)]; rfl) ?_
              refine lv_istore (lv' := [(4, .int (bI (use v s c k))), (3, .ref (L (100 + k))), (0, .ref h), (1, .int (nI t)), (2, .int (nI k))]) F.x F.cd dX9_from_73 hl (by decide) rfl (fun ls hl => ?_)
              refine lv_iload F.x F.cd dX9_from_75 (lv_at hl 0 rfl) ?_
              refine b_if_eq (b := (use v s c k)) (tgt := 110) F dX9_from_77 (by decide) (fun c_77 => ?_) (fun c_77 => ?_)
              · refine lv_iinc (k := 4) (v := (nI (k + 1))) (lv' := [(2, .int (nI (k + 1))), (4, .int (bI (use v s c k))), (3, .ref (L (100 + k))), (0, .ref h), (1, .int (nI t))]) F.x F.cd dX9_from_110 hl rfl (inc_nI k 1) (by decide) rfl (fun ls hl => ?_)
                refine lv_goto (tgt := 9) F.x F.cd dX9_from_113 (by decide) ?_
                exact ih9 (k + 1) σk Bk (by omega) (hσk) (hWI.skip (Or.inl c_77)) H locs ls hW (lv_sub hl [3, 4, 0] rfl)
              · refine lv_aload_n F.x F.cd dX9_from_80 rfl (lv_at hl 1 rfl) ?_
                refine lv_iload_n F.x F.cd dX9_from_81 rfl (lv_at hl 3 rfl) ?_
                refine s_callV (As := [.int (nI t)]) (rest := []) (C := RX5) (T := TX5) (N := 7) (n := 1) F hW (k_X5_touches g l σk (L (100 + k)) (pA v k) (pB v k) (pM v k) (pV v k) (pR v k) (pD v k) (pL v k) t ((hWn.2.2.2.2.2.1 k (by omega)).1) (by omega) (by omega) (by omega)) ((hWn.2.2.2.2.2.1 k (by omega)).1) rfl q675 q676 q677 q96 q678 rfl (by decide +kernel) rfl ⟨⟨Nat.le_of_ble_eq_true rfl, Nat.le_of_ble_eq_true rfl⟩, ⟨(Nat.le_of_ble_eq_true rfl), (Nat.le_of_ble_eq_true rfl)⟩⟩ (Nat.le_of_ble_eq_true rfl) hl.1 rfl dX9_from_82 cX_no (fun r18 σ18 H locs hp18 hW => ?_)
                obtain ⟨rfl, hs18⟩ := hp18
                rw [hs18] at hW
                refine W.eq (g2 := F0 m_ 85 ls (.int (bI (tch (pA v k) (pB v k) t)) :: [])) rfl ?_
                refine b_if_eq (b := (tch (pA v k) (pB v k) t)) (tgt := 110) F dX9_from_85 (by decide) (fun c_85 => ?_) (fun c_85 => ?_)
                · refine lv_iinc (k := 4) (v := (nI (k + 1))) (lv' := [(2, .int (nI (k + 1))), (4, .int (bI (use v s c k))), (3, .ref (L (100 + k))), (0, .ref h), (1, .int (nI t))]) F.x F.cd dX9_from_110 hl rfl (inc_nI k 1) (by decide) rfl (fun ls hl => ?_)
                  refine lv_goto (tgt := 9) F.x F.cd dX9_from_113 (by decide) ?_
                  exact ih9 (k + 1) σk Bk (by omega) (hσk) (hWI.skip (Or.inr (Or.inl c_85))) H locs ls hW (lv_sub hl [3, 4, 0] rfl)
                · refine lv_aload_n F.x F.cd dX9_from_88 rfl (lv_at hl 2 rfl) ?_
                  refine s_get F hW (ci := 12) (C := RX9) (T := TX9) (N := 4) (v := .ref ar) (e0n) rfl in_X9 0 (by decide) q301 (fun _ h9 => h9) rfl dX9_from_89 ?_
                  refine lv_aload_n F.x F.cd dX9_from_92 rfl (lv_at hl 1 rfl) ?_
                  refine lv_iload_n F.x F.cd dX9_from_93 rfl (lv_at hl 3 rfl) ?_
                  refine s_callV (As := [.int (nI t)]) (rest := [.ref ar]) (C := RX5) (T := TX5) (N := 7) (n := 1) F hW (k_X5_otherEnd g l σk (L (100 + k)) (pA v k) (pB v k) (pM v k) (pV v k) (pR v k) (pD v k) (pL v k) t ((hWn.2.2.2.2.2.1 k (by omega)).1) (by omega) (by omega)) ((hWn.2.2.2.2.2.1 k (by omega)).1) rfl q679 q680 q681 q96 q682 rfl (by decide +kernel) rfl ⟨⟨Nat.le_of_ble_eq_true rfl, Nat.le_of_ble_eq_true rfl⟩, ⟨(Nat.le_of_ble_eq_true rfl), (Nat.le_of_ble_eq_true rfl)⟩⟩ (Nat.le_of_ble_eq_true rfl) hl.1 rfl dX9_from_94 cX_no (fun r19 σ19 H locs hp19 hW => ?_)
                  obtain ⟨rfl, hs19⟩ := hp19
                  rw [hs19] at hW
                  refine W.eq (g2 := F0 m_ 97 ls (.int (nI (oth (pA v k) (pB v k) t)) :: .ref ar :: [])) rfl ?_
                  refine n_zald (i := oth (pA v k) (pB v k) t) (n := 8) (f := (fun x9 => bI (Bk x9))) (x := (bI (Bk (oth (pA v k) (pB v k) t)))) F hW (ean) (Nat.lt_of_lt_of_le (oth_lt hpq.1 hpq.2.1) hI.1) (by omega) (rfl) dX9_from_97 ?_
                  refine b_if_ne (b := (Bk (oth (pA v k) (pB v k) t))) (tgt := 110) F dX9_from_98 (by decide) (fun c_98 => ?_) (fun c_98 => ?_)
                  · refine lv_iinc (k := 4) (v := (nI (k + 1))) (lv' := [(2, .int (nI (k + 1))), (4, .int (bI (use v s c k))), (3, .ref (L (100 + k))), (0, .ref h), (1, .int (nI t))]) F.x F.cd dX9_from_110 hl rfl (inc_nI k 1) (by decide) rfl (fun ls hl => ?_)
                    refine lv_goto (tgt := 9) F.x F.cd dX9_from_113 (by decide) ?_
                    exact ih9 (k + 1) σk Bk (by omega) (hσk) (hWI.skip (Or.inr (Or.inr c_98))) H locs ls hW (lv_sub hl [3, 4, 0] rfl)
                  · refine lv_aload_n F.x F.cd dX9_from_101 rfl (lv_at hl 2 rfl) ?_
                    refine lv_aload_n F.x F.cd dX9_from_102 rfl (lv_at hl 1 rfl) ?_
                    refine lv_iload_n F.x F.cd dX9_from_103 rfl (lv_at hl 3 rfl) ?_
                    refine s_callV (As := [.int (nI t)]) (rest := [.ref h]) (C := RX5) (T := TX5) (N := 7) (n := 1) F hW (k_X5_otherEnd g l σk (L (100 + k)) (pA v k) (pB v k) (pM v k) (pV v k) (pR v k) (pD v k) (pL v k) t ((hWn.2.2.2.2.2.1 k (by omega)).1) (by omega) (by omega)) ((hWn.2.2.2.2.2.1 k (by omega)).1) rfl q679 q680 q681 q96 q682 rfl (by decide +kernel) rfl ⟨⟨Nat.le_of_ble_eq_true rfl, Nat.le_of_ble_eq_true rfl⟩, ⟨(Nat.le_of_ble_eq_true rfl), (Nat.le_of_ble_eq_true rfl)⟩⟩ (Nat.le_of_ble_eq_true rfl) hl.1 rfl dX9_from_104 cX_no (fun r20 σ20 H locs hp20 hW => ?_)
                    obtain ⟨rfl, hs20⟩ := hp20
                    rw [hs20] at hW
                    refine W.eq (g2 := F0 m_ 107 ls (.int (nI (oth (pA v k) (pB v k) t)) :: .ref h :: [])) rfl ?_
                    exact absurd (unvN_0 (R := Bk) 8 (by have := unvN_lt hWI.2.1 hR hWI.1 8 (by omega); unfold unv at hun; omega) _ (Nat.lt_of_lt_of_le (oth_lt hpq.1 hpq.2.1) hI.1)) (by rw [c_98]; decide)
            · refine lv_iconst (v := (nI 1)) F.x F.cd dX9_from_68 (by decide) ?_
              refine lv_goto (tgt := 73) F.x F.cd dX9_from_69 (by decide) ?_
              refine W.eq (g2 := F0 m_ 73 ls (.int (bI (use v s c k)) :: [])) (by rw [show use v s c k = true by first | (simp [use, c_47, c_54, c_65]; done) | (simp [use, c_47, c_54, c_65]; omega)]; rfl) ?_
              refine lv_istore (lv' := [(4, .int (bI (use v s c k))), (3, .ref (L (100 + k))), (0, .ref h), (1, .int (nI t)), (2, .int (nI k))]) F.x F.cd dX9_from_73 hl (by decide) rfl (fun ls hl => ?_)
              refine lv_iload F.x F.cd dX9_from_75 (lv_at hl 0 rfl) ?_
              refine b_if_eq (b := (use v s c k)) (tgt := 110) F dX9_from_77 (by decide) (fun c_77 => ?_) (fun c_77 => ?_)
              · refine lv_iinc (k := 4) (v := (nI (k + 1))) (lv' := [(2, .int (nI (k + 1))), (4, .int (bI (use v s c k))), (3, .ref (L (100 + k))), (0, .ref h), (1, .int (nI t))]) F.x F.cd dX9_from_110 hl rfl (inc_nI k 1) (by decide) rfl (fun ls hl => ?_)
                refine lv_goto (tgt := 9) F.x F.cd dX9_from_113 (by decide) ?_
                exact ih9 (k + 1) σk Bk (by omega) (hσk) (hWI.skip (Or.inl c_77)) H locs ls hW (lv_sub hl [3, 4, 0] rfl)
              · refine lv_aload_n F.x F.cd dX9_from_80 rfl (lv_at hl 1 rfl) ?_
                refine lv_iload_n F.x F.cd dX9_from_81 rfl (lv_at hl 3 rfl) ?_
                refine s_callV (As := [.int (nI t)]) (rest := []) (C := RX5) (T := TX5) (N := 7) (n := 1) F hW (k_X5_touches g l σk (L (100 + k)) (pA v k) (pB v k) (pM v k) (pV v k) (pR v k) (pD v k) (pL v k) t ((hWn.2.2.2.2.2.1 k (by omega)).1) (by omega) (by omega) (by omega)) ((hWn.2.2.2.2.2.1 k (by omega)).1) rfl q675 q676 q677 q96 q678 rfl (by decide +kernel) rfl ⟨⟨Nat.le_of_ble_eq_true rfl, Nat.le_of_ble_eq_true rfl⟩, ⟨(Nat.le_of_ble_eq_true rfl), (Nat.le_of_ble_eq_true rfl)⟩⟩ (Nat.le_of_ble_eq_true rfl) hl.1 rfl dX9_from_82 cX_no (fun r21 σ21 H locs hp21 hW => ?_)
                obtain ⟨rfl, hs21⟩ := hp21
                rw [hs21] at hW
                refine W.eq (g2 := F0 m_ 85 ls (.int (bI (tch (pA v k) (pB v k) t)) :: [])) rfl ?_
                refine b_if_eq (b := (tch (pA v k) (pB v k) t)) (tgt := 110) F dX9_from_85 (by decide) (fun c_85 => ?_) (fun c_85 => ?_)
                · refine lv_iinc (k := 4) (v := (nI (k + 1))) (lv' := [(2, .int (nI (k + 1))), (4, .int (bI (use v s c k))), (3, .ref (L (100 + k))), (0, .ref h), (1, .int (nI t))]) F.x F.cd dX9_from_110 hl rfl (inc_nI k 1) (by decide) rfl (fun ls hl => ?_)
                  refine lv_goto (tgt := 9) F.x F.cd dX9_from_113 (by decide) ?_
                  exact ih9 (k + 1) σk Bk (by omega) (hσk) (hWI.skip (Or.inr (Or.inl c_85))) H locs ls hW (lv_sub hl [3, 4, 0] rfl)
                · refine lv_aload_n F.x F.cd dX9_from_88 rfl (lv_at hl 2 rfl) ?_
                  refine s_get F hW (ci := 12) (C := RX9) (T := TX9) (N := 4) (v := .ref ar) (e0n) rfl in_X9 0 (by decide) q301 (fun _ h9 => h9) rfl dX9_from_89 ?_
                  refine lv_aload_n F.x F.cd dX9_from_92 rfl (lv_at hl 1 rfl) ?_
                  refine lv_iload_n F.x F.cd dX9_from_93 rfl (lv_at hl 3 rfl) ?_
                  refine s_callV (As := [.int (nI t)]) (rest := [.ref ar]) (C := RX5) (T := TX5) (N := 7) (n := 1) F hW (k_X5_otherEnd g l σk (L (100 + k)) (pA v k) (pB v k) (pM v k) (pV v k) (pR v k) (pD v k) (pL v k) t ((hWn.2.2.2.2.2.1 k (by omega)).1) (by omega) (by omega)) ((hWn.2.2.2.2.2.1 k (by omega)).1) rfl q679 q680 q681 q96 q682 rfl (by decide +kernel) rfl ⟨⟨Nat.le_of_ble_eq_true rfl, Nat.le_of_ble_eq_true rfl⟩, ⟨(Nat.le_of_ble_eq_true rfl), (Nat.le_of_ble_eq_true rfl)⟩⟩ (Nat.le_of_ble_eq_true rfl) hl.1 rfl dX9_from_94 cX_no (fun r22 σ22 H locs hp22 hW => ?_)
                  obtain ⟨rfl, hs22⟩ := hp22
                  rw [hs22] at hW
                  refine W.eq (g2 := F0 m_ 97 ls (.int (nI (oth (pA v k) (pB v k) t)) :: .ref ar :: [])) rfl ?_
                  refine n_zald (i := oth (pA v k) (pB v k) t) (n := 8) (f := (fun x9 => bI (Bk x9))) (x := (bI (Bk (oth (pA v k) (pB v k) t)))) F hW (ean) (Nat.lt_of_lt_of_le (oth_lt hpq.1 hpq.2.1) hI.1) (by omega) (rfl) dX9_from_97 ?_
                  refine b_if_ne (b := (Bk (oth (pA v k) (pB v k) t))) (tgt := 110) F dX9_from_98 (by decide) (fun c_98 => ?_) (fun c_98 => ?_)
                  · refine lv_iinc (k := 4) (v := (nI (k + 1))) (lv' := [(2, .int (nI (k + 1))), (4, .int (bI (use v s c k))), (3, .ref (L (100 + k))), (0, .ref h), (1, .int (nI t))]) F.x F.cd dX9_from_110 hl rfl (inc_nI k 1) (by decide) rfl (fun ls hl => ?_)
                    refine lv_goto (tgt := 9) F.x F.cd dX9_from_113 (by decide) ?_
                    exact ih9 (k + 1) σk Bk (by omega) (hσk) (hWI.skip (Or.inr (Or.inr c_98))) H locs ls hW (lv_sub hl [3, 4, 0] rfl)
                  · refine lv_aload_n F.x F.cd dX9_from_101 rfl (lv_at hl 2 rfl) ?_
                    refine lv_aload_n F.x F.cd dX9_from_102 rfl (lv_at hl 1 rfl) ?_
                    refine lv_iload_n F.x F.cd dX9_from_103 rfl (lv_at hl 3 rfl) ?_
                    refine s_callV (As := [.int (nI t)]) (rest := [.ref h]) (C := RX5) (T := TX5) (N := 7) (n := 1) F hW (k_X5_otherEnd g l σk (L (100 + k)) (pA v k) (pB v k) (pM v k) (pV v k) (pR v k) (pD v k) (pL v k) t ((hWn.2.2.2.2.2.1 k (by omega)).1) (by omega) (by omega)) ((hWn.2.2.2.2.2.1 k (by omega)).1) rfl q679 q680 q681 q96 q682 rfl (by decide +kernel) rfl ⟨⟨Nat.le_of_ble_eq_true rfl, Nat.le_of_ble_eq_true rfl⟩, ⟨(Nat.le_of_ble_eq_true rfl), (Nat.le_of_ble_eq_true rfl)⟩⟩ (Nat.le_of_ble_eq_true rfl) hl.1 rfl dX9_from_104 cX_no (fun r23 σ23 H locs hp23 hW => ?_)
                    obtain ⟨rfl, hs23⟩ := hp23
                    rw [hs23] at hW
                    refine W.eq (g2 := F0 m_ 107 ls (.int (nI (oth (pA v k) (pB v k) t)) :: .ref h :: [])) rfl ?_
                    exact absurd (unvN_0 (R := Bk) 8 (by have := unvN_lt hWI.2.1 hR hWI.1 8 (by omega); unfold unv at hun; omega) _ (Nat.lt_of_lt_of_le (oth_lt hpq.1 hpq.2.1) hI.1)) (by rw [c_98]; decide)
  exact loop9 (v 1) 0 _ _ (by omega) (hσ0) (WI.start) H locs ls hW (lv_sub hl [1, 2, 0] rfl)
set_option maxHeartbeats 4000000 in
theorem k_X9_from_2 (g : Gh) (l : Launch) (σ : Sto) (L v : Nat → Nat) (h ar s t : Nat) (c : Int32) (B : Nat → Bool) (hWk : IsWorks g σ L v) (hI : Inv v) (e0 : σ h = some (.inr (12, [.ref ar, .int (nI s), .int c, .ref (L 0)]))) (ea : σ ar = some (eI g 2 8 (fun j => bI (B j)))) (ba : gB g ≤ ar) (hs : s < 2 ^ 30) (ht : t < v 0) (hR : B t = false) (hun : unv B ≤ 2) : Ct g l yX9_from cX9_from 5 none ({ frames := 4, cells := 0, slots := 0, locals := 88 } : Room) [.ref h, .int (nI t)] σ (fun r σ' => r = none ∧ ∃ R' : Nat → Bool, σ' = sset σ ar (eI g 2 8 (fun j => bI (R' j))) ∧ WP v s c B t R') (nox) := by
  refine Ct.body (by decide) (Nat.le_of_ble_eq_true rfl) ?_
  intro p_ e_ s_ m_ args_ below_ meth_ c_ ls H locs Q F hW hl hQ
  have hl : lv_has ls 5 [(0, .ref h), (1, .int (nI t))] := hl
  have hT := hWk.2.2.1
  have hP := hWk.2.2.2.1
  obtain ⟨mcT, nT, fT, eT, bT, -⟩ := id hT
  obtain ⟨mcP, nP, fP, eP, bP, -⟩ := id hP
  have hv0 := hI.1
  have hv1 := hI.2.1
  refine lv_aload_n F.x F.cd dX9_from_0 rfl (lv_at hl 0 rfl) ?_
  refine s_get F hW (ci := 12) (C := RX9) (T := TX9) (N := 4) (v := .ref ar) (e0) rfl in_X9 0 (by decide) q301 (fun _ h9 => h9) rfl dX9_from_1 ?_
  refine lv_iload_n F.x F.cd dX9_from_4 rfl (lv_at hl 1 rfl) ?_
  refine lv_iconst (v := (nI 1)) F.x F.cd dX9_from_5 (by decide) ?_
  refine n_zast (i := t) F hW (ea) (ba) (by omega) (by omega) (show narrow .boolean (.int (nI 1)) = .int (nI 1) by decide) dX9_from_6 (fun H locs hW => ?_)
  obtain ⟨σ1, hσ1⟩ : ∃ z, z = sset σ ar (eI g 2 8 (upd (fun x9 => bI (B x9)) t (nI 1))) := ⟨_, rfl⟩
  have hW : Hl g σ1 H locs := by rw [hσ1]; exact hW
  have w1 : σ1 ar = some (eI g 2 8 (upd (fun x9 => bI (B x9)) t (nI 1))) := by rw [hσ1]; exact sset_eq
  have f2 : σ1 (L 0) = some (.inr (1, [.ref (L 1), .ref (L 2), .int (nI (v 2)), .int (nI (v 3)), .int (nI (v 4)), .int (nI (v 5))])) := by rw [hσ1, sset_ne (sto_ne ea hWk.1 (by simp))]; exact hWk.1
  have f3 : σ1 (L 1) = some (.inr (2, [.int mcT, .ref (L 3), .int (nI (v 0))])) := by rw [hσ1, sset_ne (sto_ne ea eT (by simp))]; exact eT
  have j4 := IsList.setI (e := eI g 2 8 (upd (fun x9 => bI (B x9)) t (nI 1))) (hT) (ea)
  rw [← hσ1] at j4
  have f5 : σ1 (L 2) = some (.inr (2, [.int mcP, .ref (L 4), .int (nI (v 1))])) := by rw [hσ1, sset_ne (sto_ne ea eP (by simp))]; exact eP
  have j6 := IsList.setI (e := eI g 2 8 (upd (fun x9 => bI (B x9)) t (nI 1))) (hP) (ea)
  rw [← hσ1] at j6
  have f7 : σ1 h = some (.inr (12, [.ref ar, .int (nI s), .int c, .ref (L 0)])) := by rw [hσ1, sset_ne (sto_ne ea e0 (by simp))]; exact e0
  have hσ0 : σ1 = sset σ ar (eI g 2 8 (fun j => bI (va_up B t true j))) := by rw [hσ1, updB]
  refine lv_iconst (v := (nI 0)) F.x F.cd dX9_from_7 (by decide) ?_
  refine lv_istore_n (lv' := [(2, .int (nI 0)), (0, .ref h), (1, .int (nI t))]) F.x F.cd dX9_from_8 rfl hl (by decide) rfl (fun ls hl => ?_)
  have loop9 : ∀ (n : Nat) (k : Nat) (σk : Sto) (Bk : Nat → Bool), k + n = v 1 → (σk = sset σ ar (eI g 2 8 (fun j => bI (Bk j)))) → WI v s c B t Bk k → ∀ (H : Heap) (locs : List Loc) (ls : Array Slot), Hl g σk H locs → lv_has ls 5 [(0, .ref h), (1, .int (nI t)), (2, .int (nI k))] → W p_ l e_ ({ frames := 4, cells := 0, slots := 0, locals := 88 } : Room) s_ m_ args_ below_ meth_ c_ H locs 0 0 Q (F0 m_ 9 ls ([])) := by
    intro n
    induction n with
    | zero =>
      intro k σk Bk hkn hσk hWI H locs ls hW hl
      have hWn : IsWorks g σk L v := by rw [hσk]; exact hWk.setI ea
      have e0n : σk h = some (.inr (12, [.ref ar, .int (nI s), .int c, .ref (L 0)])) := by rw [hσk, sset_ne (sto_ne ea e0 (by simp))]; exact e0
      have ean : σk ar = some (eI g 2 8 (fun j => bI (Bk j))) := by rw [hσk, sset_eq]
      have hT_k := hWn.2.2.1
      have hP_k := hWn.2.2.2.1
      obtain ⟨mcT_k, nT_k, fT_k, eT_k, bT_k, -⟩ := id hT_k
      obtain ⟨mcP_k, nP_k, fP_k, eP_k, bP_k, -⟩ := id hP_k
      have hv0_k := hI.1
      have hv1_k := hI.2.1
      refine lv_iload_n F.x F.cd dX9_from_9 rfl (lv_at hl 2 rfl) ?_
      refine lv_aload_n F.x F.cd dX9_from_10 rfl (lv_at hl 0 rfl) ?_
      refine s_get F hW (ci := 12) (C := RX9) (T := TX9) (N := 4) (v := .ref (L 0)) (e0n) rfl in_X9 3 (by decide) q305 (fun _ h9 => h9) rfl dX9_from_11 ?_
      refine s_getN F hW (ci := 1) (C := RX2) (T := TX2) (N := 6) (v := .ref (L 2)) (hWn.1) rfl in_X2 1 (by decide) q163 (fun _ h9 => h9) rfl dX9_from_14 ?_
      refine s_callF (As := []) (rest := [.int (nI k)]) (C := RJ2) (T := TJ2) (N := 3) (n := 0) F hW (k_J2_size g l σk _ _ _ _ hP_k) (eP_k) rfl (List.mem_of_getElem? (i := 0) rfl) q323 q272 q274 q72 q276 (by decide +kernel) rfl ⟨⟨Nat.le_of_ble_eq_true rfl, Nat.le_of_ble_eq_true rfl⟩, ⟨(Nat.le_of_ble_eq_true rfl), (Nat.le_of_ble_eq_true rfl)⟩⟩ (Nat.le_of_ble_eq_true rfl) hl.1 rfl dX9_from_17 cX_no (fun r8 σ8 H locs hp8 hW => ?_)
      obtain ⟨rfl, hs8⟩ := hp8
      rw [hs8] at hW
      refine W.eq (g2 := F0 m_ 22 ls (.int (nI (v 1)) :: .int (nI k) :: [])) rfl ?_
      refine n_icmp_ge (a := k) (b := v 1) (tgt := 116) F (by omega) (by omega) dX9_from_22 (by decide) (fun c_22 => ?_) (fun c_22 => ?_)
      · subst hQ
        exact s_retv F hW (⟨rfl, Bk, hσk, WI.done hI (by rw [← show k = v 1 by omega]; exact hWI)⟩) ⟨(Nat.le_of_ble_eq_true rfl), (Nat.le_of_ble_eq_true rfl)⟩ dX9_from_116
      · exact absurd c_22 (by omega)
    | succ n ih9 =>
      intro k σk Bk hkn hσk hWI H locs ls hW hl
      have hWn : IsWorks g σk L v := by rw [hσk]; exact hWk.setI ea
      have e0n : σk h = some (.inr (12, [.ref ar, .int (nI s), .int c, .ref (L 0)])) := by rw [hσk, sset_ne (sto_ne ea e0 (by simp))]; exact e0
      have ean : σk ar = some (eI g 2 8 (fun j => bI (Bk j))) := by rw [hσk, sset_eq]
      have hT_k := hWn.2.2.1
      have hP_k := hWn.2.2.2.1
      obtain ⟨mcT_k, nT_k, fT_k, eT_k, bT_k, -⟩ := id hT_k
      obtain ⟨mcP_k, nP_k, fP_k, eP_k, bP_k, -⟩ := id hP_k
      have hv0_k := hI.1
      have hv1_k := hI.2.1
      refine lv_iload_n F.x F.cd dX9_from_9 rfl (lv_at hl 2 rfl) ?_
      refine lv_aload_n F.x F.cd dX9_from_10 rfl (lv_at hl 0 rfl) ?_
      refine s_get F hW (ci := 12) (C := RX9) (T := TX9) (N := 4) (v := .ref (L 0)) (e0n) rfl in_X9 3 (by decide) q305 (fun _ h9 => h9) rfl dX9_from_11 ?_
      refine s_getN F hW (ci := 1) (C := RX2) (T := TX2) (N := 6) (v := .ref (L 2)) (hWn.1) rfl in_X2 1 (by decide) q163 (fun _ h9 => h9) rfl dX9_from_14 ?_
      refine s_callF (As := []) (rest := [.int (nI k)]) (C := RJ2) (T := TJ2) (N := 3) (n := 0) F hW (k_J2_size g l σk _ _ _ _ hP_k) (eP_k) rfl (List.mem_of_getElem? (i := 0) rfl) q323 q272 q274 q72 q276 (by decide +kernel) rfl ⟨⟨Nat.le_of_ble_eq_true rfl, Nat.le_of_ble_eq_true rfl⟩, ⟨(Nat.le_of_ble_eq_true rfl), (Nat.le_of_ble_eq_true rfl)⟩⟩ (Nat.le_of_ble_eq_true rfl) hl.1 rfl dX9_from_17 cX_no (fun r9 σ9 H locs hp9 hW => ?_)
      obtain ⟨rfl, hs9⟩ := hp9
      rw [hs9] at hW
      refine W.eq (g2 := F0 m_ 22 ls (.int (nI (v 1)) :: .int (nI k) :: [])) rfl ?_
      refine n_icmp_ge (a := k) (b := v 1) (tgt := 116) F (by omega) (by omega) dX9_from_22 (by decide) (fun c_22 => ?_) (fun c_22 => ?_)
      · exact absurd c_22 (by omega)
      · have hpq := hI.pp (q := k) (by omega)
        refine lv_aload_n F.x F.cd dX9_from_25 rfl (lv_at hl 0 rfl) ?_
        refine s_get F hW (ci := 12) (C := RX9) (T := TX9) (N := 4) (v := .ref (L 0)) (e0n) rfl in_X9 3 (by decide) q305 (fun _ h9 => h9) rfl dX9_from_26 ?_
        refine s_getN F hW (ci := 1) (C := RX2) (T := TX2) (N := 6) (v := .ref (L 2)) (hWn.1) rfl in_X2 1 (by decide) q163 (fun _ h9 => h9) rfl dX9_from_29 ?_
        refine lv_iload_n F.x F.cd dX9_from_32 rfl (lv_at hl 2 rfl) ?_
        refine s_callF (As := [.int (nI k)]) (rest := []) (C := RJ2) (T := TJ2) (N := 3) (n := 1) F hW (k_J2_get g l σk _ _ _ _ k hP_k (by omega)) (eP_k) rfl (List.mem_of_getElem? (i := 1) rfl) q325 q328 q330 q72 q332 (by decide +kernel) rfl ⟨⟨Nat.le_of_ble_eq_true rfl, Nat.le_of_ble_eq_true rfl⟩, ⟨(Nat.le_of_ble_eq_true rfl), (Nat.le_of_ble_eq_true rfl)⟩⟩ (Nat.le_of_ble_eq_true rfl) hl.1 rfl dX9_from_33 cX_no (fun r10 σ10 H locs hp10 hW => ?_)
        obtain ⟨rfl, hs10⟩ := hp10
        rw [hs10] at hW
        refine W.eq (g2 := F0 m_ 38 ls (.ref (L (100 + k)) :: [])) rfl ?_
        refine s_cast_ F hW (C := RX5) (T := TX5) (N := 7) ((hWn.2.2.2.2.2.1 k (by omega)).1) rfl q670 dX9_from_38 ?_
        refine lv_astore_n (lv' := [(3, .ref (L (100 + k))), (0, .ref h), (1, .int (nI t)), (2, .int (nI k))]) F.x F.cd dX9_from_41 rfl hl (by decide) rfl (fun ls hl => ?_)
        refine lv_iload_n F.x F.cd dX9_from_42 rfl (lv_at hl 3 rfl) ?_
        refine lv_aload_n F.x F.cd dX9_from_43 rfl (lv_at hl 1 rfl) ?_
        refine s_get F hW (ci := 12) (C := RX9) (T := TX9) (N := 4) (v := .int c) (e0n) rfl in_X9 2 (by decide) q304 (fun _ h9 => h9) rfl dX9_from_44 ?_
        refine lv_icmp_eq (x := (nI k)) (y := c) (tgt := 72) F.x F.cd dX9_from_47 (by decide) (fun c_47 => ?_) (fun c_47 => ?_)
        · refine lv_iconst (v := (nI 0)) F.x F.cd dX9_from_72 (by decide) ?_
          refine W.eq (g2 := F0 m_ 73 ls (.int (bI (use v s c k)) :: [])) (by rw [show use v s c k = false by first | (simp [use, c_47]; done) | (simp [use, c_47]; omega)]; rfl) ?_
          refine lv_istore (lv' := [(4, .int (bI (use v s c k))), (3, .ref (L (100 + k))), (0, .ref h), (1, .int (nI t)), (2, .int (nI k))]) F.x F.cd dX9_from_73 hl (by decide) rfl (fun ls hl => ?_)
          refine lv_iload F.x F.cd dX9_from_75 (lv_at hl 0 rfl) ?_
          refine b_if_eq (b := (use v s c k)) (tgt := 110) F dX9_from_77 (by decide) (fun c_77 => ?_) (fun c_77 => ?_)
          · refine lv_iinc (k := 4) (v := (nI (k + 1))) (lv' := [(2, .int (nI (k + 1))), (4, .int (bI (use v s c k))), (3, .ref (L (100 + k))), (0, .ref h), (1, .int (nI t))]) F.x F.cd dX9_from_110 hl rfl (inc_nI k 1) (by decide) rfl (fun ls hl => ?_)
            refine lv_goto (tgt := 9) F.x F.cd dX9_from_113 (by decide) ?_
            exact ih9 (k + 1) σk Bk (by omega) (hσk) (hWI.skip (Or.inl c_77)) H locs ls hW (lv_sub hl [3, 4, 0] rfl)
          · refine lv_aload_n F.x F.cd dX9_from_80 rfl (lv_at hl 1 rfl) ?_
            refine lv_iload_n F.x F.cd dX9_from_81 rfl (lv_at hl 3 rfl) ?_
            refine s_callV (As := [.int (nI t)]) (rest := []) (C := RX5) (T := TX5) (N := 7) (n := 1) F hW (k_X5_touches g l σk (L (100 + k)) (pA v k) (pB v k) (pM v k) (pV v k) (pR v k) (pD v k) (pL v k) t ((hWn.2.2.2.2.2.1 k (by omega)).1) (by omega) (by omega) (by omega)) ((hWn.2.2.2.2.2.1 k (by omega)).1) rfl q675 q676 q677 q96 q678 rfl (by decide +kernel) rfl ⟨⟨Nat.le_of_ble_eq_true rfl, Nat.le_of_ble_eq_true rfl⟩, ⟨(Nat.le_of_ble_eq_true rfl), (Nat.le_of_ble_eq_true rfl)⟩⟩ (Nat.le_of_ble_eq_true rfl) hl.1 rfl dX9_from_82 cX_no (fun r11 σ11 H locs hp11 hW => ?_)
            obtain ⟨rfl, hs11⟩ := hp11
            rw [hs11] at hW
            refine W.eq (g2 := F0 m_ 85 ls (.int (bI (tch (pA v k) (pB v k) t)) :: [])) rfl ?_
            refine b_if_eq (b := (tch (pA v k) (pB v k) t)) (tgt := 110) F dX9_from_85 (by decide) (fun c_85 => ?_) (fun c_85 => ?_)
            · refine lv_iinc (k := 4) (v := (nI (k + 1))) (lv' := [(2, .int (nI (k + 1))), (4, .int (bI (use v s c k))), (3, .ref (L (100 + k))), (0, .ref h), (1, .int (nI t))]) F.x F.cd dX9_from_110 hl rfl (inc_nI k 1) (by decide) rfl (fun ls hl => ?_)
              refine lv_goto (tgt := 9) F.x F.cd dX9_from_113 (by decide) ?_
              exact ih9 (k + 1) σk Bk (by omega) (hσk) (hWI.skip (Or.inr (Or.inl c_85))) H locs ls hW (lv_sub hl [3, 4, 0] rfl)
            · refine lv_aload_n F.x F.cd dX9_from_88 rfl (lv_at hl 2 rfl) ?_
              refine s_get F hW (ci := 12) (C := RX9) (T := TX9) (N := 4) (v := .ref ar) (e0n) rfl in_X9 0 (by decide) q301 (fun _ h9 => h9) rfl dX9_from_89 ?_
              refine lv_aload_n F.x F.cd dX9_from_92 rfl (lv_at hl 1 rfl) ?_
              refine lv_iload_n F.x F.cd dX9_from_93 rfl (lv_at hl 3 rfl) ?_
              refine s_callV (As := [.int (nI t)]) (rest := [.ref ar]) (C := RX5) (T := TX5) (N := 7) (n := 1) F hW (k_X5_otherEnd g l σk (L (100 + k)) (pA v k) (pB v k) (pM v k) (pV v k) (pR v k) (pD v k) (pL v k) t ((hWn.2.2.2.2.2.1 k (by omega)).1) (by omega) (by omega)) ((hWn.2.2.2.2.2.1 k (by omega)).1) rfl q679 q680 q681 q96 q682 rfl (by decide +kernel) rfl ⟨⟨Nat.le_of_ble_eq_true rfl, Nat.le_of_ble_eq_true rfl⟩, ⟨(Nat.le_of_ble_eq_true rfl), (Nat.le_of_ble_eq_true rfl)⟩⟩ (Nat.le_of_ble_eq_true rfl) hl.1 rfl dX9_from_94 cX_no (fun r12 σ12 H locs hp12 hW => ?_)
              obtain ⟨rfl, hs12⟩ := hp12
              rw [hs12] at hW
              refine W.eq (g2 := F0 m_ 97 ls (.int (nI (oth (pA v k) (pB v k) t)) :: .ref ar :: [])) rfl ?_
              refine n_zald (i := oth (pA v k) (pB v k) t) (n := 8) (f := (fun x9 => bI (Bk x9))) (x := (bI (Bk (oth (pA v k) (pB v k) t)))) F hW (ean) (Nat.lt_of_lt_of_le (oth_lt hpq.1 hpq.2.1) hI.1) (by omega) (rfl) dX9_from_97 ?_
              refine b_if_ne (b := (Bk (oth (pA v k) (pB v k) t))) (tgt := 110) F dX9_from_98 (by decide) (fun c_98 => ?_) (fun c_98 => ?_)
              · refine lv_iinc (k := 4) (v := (nI (k + 1))) (lv' := [(2, .int (nI (k + 1))), (4, .int (bI (use v s c k))), (3, .ref (L (100 + k))), (0, .ref h), (1, .int (nI t))]) F.x F.cd dX9_from_110 hl rfl (inc_nI k 1) (by decide) rfl (fun ls hl => ?_)
                refine lv_goto (tgt := 9) F.x F.cd dX9_from_113 (by decide) ?_
                exact ih9 (k + 1) σk Bk (by omega) (hσk) (hWI.skip (Or.inr (Or.inr c_98))) H locs ls hW (lv_sub hl [3, 4, 0] rfl)
              · refine lv_aload_n F.x F.cd dX9_from_101 rfl (lv_at hl 2 rfl) ?_
                refine lv_aload_n F.x F.cd dX9_from_102 rfl (lv_at hl 1 rfl) ?_
                refine lv_iload_n F.x F.cd dX9_from_103 rfl (lv_at hl 3 rfl) ?_
                refine s_callV (As := [.int (nI t)]) (rest := [.ref h]) (C := RX5) (T := TX5) (N := 7) (n := 1) F hW (k_X5_otherEnd g l σk (L (100 + k)) (pA v k) (pB v k) (pM v k) (pV v k) (pR v k) (pD v k) (pL v k) t ((hWn.2.2.2.2.2.1 k (by omega)).1) (by omega) (by omega)) ((hWn.2.2.2.2.2.1 k (by omega)).1) rfl q679 q680 q681 q96 q682 rfl (by decide +kernel) rfl ⟨⟨Nat.le_of_ble_eq_true rfl, Nat.le_of_ble_eq_true rfl⟩, ⟨(Nat.le_of_ble_eq_true rfl), (Nat.le_of_ble_eq_true rfl)⟩⟩ (Nat.le_of_ble_eq_true rfl) hl.1 rfl dX9_from_104 cX_no (fun r13 σ13 H locs hp13 hW => ?_)
                obtain ⟨rfl, hs13⟩ := hp13
                rw [hs13] at hW
                refine W.eq (g2 := F0 m_ 107 ls (.int (nI (oth (pA v k) (pB v k) t)) :: .ref h :: [])) rfl ?_
                refine s_callV (As := [.int (nI (oth (pA v k) (pB v k) t))]) (rest := []) (C := RX9) (T := TX9) (N := 4) (n := 1) F hW (k_X9_from_1 g l σk L v h ar s (oth (pA v k) (pB v k) t) c Bk hWn hI e0n ean ba hs (oth_lt hpq.1 hpq.2.1) c_98 (by have := unvN_lt hWI.2.1 hR hWI.1 8 (by omega); unfold unv at hun ⊢; omega)) (e0n) rfl q683 q319 q320 q107 q321 rfl (by decide +kernel) rfl ⟨⟨Nat.le_of_ble_eq_true rfl, Nat.le_of_ble_eq_true rfl⟩, ⟨(Nat.le_of_ble_eq_true rfl), (Nat.le_of_ble_eq_true rfl)⟩⟩ (Nat.le_of_ble_eq_true rfl) hl.1 rfl dX9_from_107 cX_no (fun r14 σ14 H locs hp14 hW => ?_)
                obtain ⟨rfl, B9, hσ9, hP9⟩ := hp14
                refine W.eq (g2 := F0 m_ 110 ls ([])) rfl ?_
                refine lv_iinc (k := 4) (v := (nI (k + 1))) (lv' := [(2, .int (nI (k + 1))), (4, .int (bI (use v s c k))), (3, .ref (L (100 + k))), (0, .ref h), (1, .int (nI t))]) F.x F.cd dX9_from_110 hl rfl (inc_nI k 1) (by decide) rfl (fun ls hl => ?_)
                refine lv_goto (tgt := 9) F.x F.cd dX9_from_113 (by decide) ?_
                exact ih9 (k + 1) σ14 B9 (by omega) (by rw [hσ9, hσk, sset_sset]) (hWI.step hI (by omega) c_77 c_85 hP9) H locs ls hW (lv_sub hl [3, 4, 0] rfl)
        · refine lv_aload_n F.x F.cd dX9_from_50 rfl (lv_at hl 0 rfl) ?_
          refine s_callV (As := []) (rest := []) (C := RX5) (T := TX5) (N := 7) (n := 0) F hW (k_X5_isOpen g l σk (L (100 + k)) (pA v k) (pB v k) (pM v k) (pV v k) (pR v k) (pD v k) (pL v k) ((hWn.2.2.2.2.2.1 k (by omega)).1) (by omega) (by omega)) ((hWn.2.2.2.2.2.1 k (by omega)).1) rfl q671 q672 q673 q96 q674 rfl (by decide +kernel) rfl ⟨⟨Nat.le_of_ble_eq_true rfl, Nat.le_of_ble_eq_true rfl⟩, ⟨(Nat.le_of_ble_eq_true rfl), (Nat.le_of_ble_eq_true rfl)⟩⟩ (Nat.le_of_ble_eq_true rfl) hl.1 rfl dX9_from_51 cX_no (fun r15 σ15 H locs hp15 hW => ?_)
          obtain ⟨rfl, hs15⟩ := hp15
          rw [hs15] at hW
          refine W.eq (g2 := F0 m_ 54 ls (.int (bI (opn (pV v k) (pD v k))) :: [])) rfl ?_
          refine b_if_eq (b := (opn (pV v k) (pD v k))) (tgt := 72) F dX9_from_54 (by decide) (fun c_54 => ?_) (fun c_54 => ?_)
          · refine lv_iconst (v := (nI 0)) F.x F.cd dX9_from_72 (by decide) ?_
            refine W.eq (g2 := F0 m_ 73 ls (.int (bI (use v s c k)) :: [])) (by rw [show use v s c k = false by first | (simp [use, c_47, c_54]; done) | (simp [use, c_47, c_54]; omega)]; rfl) ?_
            refine lv_istore (lv' := [(4, .int (bI (use v s c k))), (3, .ref (L (100 + k))), (0, .ref h), (1, .int (nI t)), (2, .int (nI k))]) F.x F.cd dX9_from_73 hl (by decide) rfl (fun ls hl => ?_)
            refine lv_iload F.x F.cd dX9_from_75 (lv_at hl 0 rfl) ?_
            refine b_if_eq (b := (use v s c k)) (tgt := 110) F dX9_from_77 (by decide) (fun c_77 => ?_) (fun c_77 => ?_)
            · refine lv_iinc (k := 4) (v := (nI (k + 1))) (lv' := [(2, .int (nI (k + 1))), (4, .int (bI (use v s c k))), (3, .ref (L (100 + k))), (0, .ref h), (1, .int (nI t))]) F.x F.cd dX9_from_110 hl rfl (inc_nI k 1) (by decide) rfl (fun ls hl => ?_)
              refine lv_goto (tgt := 9) F.x F.cd dX9_from_113 (by decide) ?_
              exact ih9 (k + 1) σk Bk (by omega) (hσk) (hWI.skip (Or.inl c_77)) H locs ls hW (lv_sub hl [3, 4, 0] rfl)
            · refine lv_aload_n F.x F.cd dX9_from_80 rfl (lv_at hl 1 rfl) ?_
              refine lv_iload_n F.x F.cd dX9_from_81 rfl (lv_at hl 3 rfl) ?_
              refine s_callV (As := [.int (nI t)]) (rest := []) (C := RX5) (T := TX5) (N := 7) (n := 1) F hW (k_X5_touches g l σk (L (100 + k)) (pA v k) (pB v k) (pM v k) (pV v k) (pR v k) (pD v k) (pL v k) t ((hWn.2.2.2.2.2.1 k (by omega)).1) (by omega) (by omega) (by omega)) ((hWn.2.2.2.2.2.1 k (by omega)).1) rfl q675 q676 q677 q96 q678 rfl (by decide +kernel) rfl ⟨⟨Nat.le_of_ble_eq_true rfl, Nat.le_of_ble_eq_true rfl⟩, ⟨(Nat.le_of_ble_eq_true rfl), (Nat.le_of_ble_eq_true rfl)⟩⟩ (Nat.le_of_ble_eq_true rfl) hl.1 rfl dX9_from_82 cX_no (fun r16 σ16 H locs hp16 hW => ?_)
              obtain ⟨rfl, hs16⟩ := hp16
              rw [hs16] at hW
              refine W.eq (g2 := F0 m_ 85 ls (.int (bI (tch (pA v k) (pB v k) t)) :: [])) rfl ?_
              refine b_if_eq (b := (tch (pA v k) (pB v k) t)) (tgt := 110) F dX9_from_85 (by decide) (fun c_85 => ?_) (fun c_85 => ?_)
              · refine lv_iinc (k := 4) (v := (nI (k + 1))) (lv' := [(2, .int (nI (k + 1))), (4, .int (bI (use v s c k))), (3, .ref (L (100 + k))), (0, .ref h), (1, .int (nI t))]) F.x F.cd dX9_from_110 hl rfl (inc_nI k 1) (by decide) rfl (fun ls hl => ?_)
                refine lv_goto (tgt := 9) F.x F.cd dX9_from_113 (by decide) ?_
                exact ih9 (k + 1) σk Bk (by omega) (hσk) (hWI.skip (Or.inr (Or.inl c_85))) H locs ls hW (lv_sub hl [3, 4, 0] rfl)
              · refine lv_aload_n F.x F.cd dX9_from_88 rfl (lv_at hl 2 rfl) ?_
                refine s_get F hW (ci := 12) (C := RX9) (T := TX9) (N := 4) (v := .ref ar) (e0n) rfl in_X9 0 (by decide) q301 (fun _ h9 => h9) rfl dX9_from_89 ?_
                refine lv_aload_n F.x F.cd dX9_from_92 rfl (lv_at hl 1 rfl) ?_
                refine lv_iload_n F.x F.cd dX9_from_93 rfl (lv_at hl 3 rfl) ?_
                refine s_callV (As := [.int (nI t)]) (rest := [.ref ar]) (C := RX5) (T := TX5) (N := 7) (n := 1) F hW (k_X5_otherEnd g l σk (L (100 + k)) (pA v k) (pB v k) (pM v k) (pV v k) (pR v k) (pD v k) (pL v k) t ((hWn.2.2.2.2.2.1 k (by omega)).1) (by omega) (by omega)) ((hWn.2.2.2.2.2.1 k (by omega)).1) rfl q679 q680 q681 q96 q682 rfl (by decide +kernel) rfl ⟨⟨Nat.le_of_ble_eq_true rfl, Nat.le_of_ble_eq_true rfl⟩, ⟨(Nat.le_of_ble_eq_true rfl), (Nat.le_of_ble_eq_true rfl)⟩⟩ (Nat.le_of_ble_eq_true rfl) hl.1 rfl dX9_from_94 cX_no (fun r17 σ17 H locs hp17 hW => ?_)
                obtain ⟨rfl, hs17⟩ := hp17
                rw [hs17] at hW
                refine W.eq (g2 := F0 m_ 97 ls (.int (nI (oth (pA v k) (pB v k) t)) :: .ref ar :: [])) rfl ?_
                refine n_zald (i := oth (pA v k) (pB v k) t) (n := 8) (f := (fun x9 => bI (Bk x9))) (x := (bI (Bk (oth (pA v k) (pB v k) t)))) F hW (ean) (Nat.lt_of_lt_of_le (oth_lt hpq.1 hpq.2.1) hI.1) (by omega) (rfl) dX9_from_97 ?_
                refine b_if_ne (b := (Bk (oth (pA v k) (pB v k) t))) (tgt := 110) F dX9_from_98 (by decide) (fun c_98 => ?_) (fun c_98 => ?_)
                · refine lv_iinc (k := 4) (v := (nI (k + 1))) (lv' := [(2, .int (nI (k + 1))), (4, .int (bI (use v s c k))), (3, .ref (L (100 + k))), (0, .ref h), (1, .int (nI t))]) F.x F.cd dX9_from_110 hl rfl (inc_nI k 1) (by decide) rfl (fun ls hl => ?_)
                  refine lv_goto (tgt := 9) F.x F.cd dX9_from_113 (by decide) ?_
                  exact ih9 (k + 1) σk Bk (by omega) (hσk) (hWI.skip (Or.inr (Or.inr c_98))) H locs ls hW (lv_sub hl [3, 4, 0] rfl)
                · refine lv_aload_n F.x F.cd dX9_from_101 rfl (lv_at hl 2 rfl) ?_
                  refine lv_aload_n F.x F.cd dX9_from_102 rfl (lv_at hl 1 rfl) ?_
                  refine lv_iload_n F.x F.cd dX9_from_103 rfl (lv_at hl 3 rfl) ?_
                  refine s_callV (As := [.int (nI t)]) (rest := [.ref h]) (C := RX5) (T := TX5) (N := 7) (n := 1) F hW (k_X5_otherEnd g l σk (L (100 + k)) (pA v k) (pB v k) (pM v k) (pV v k) (pR v k) (pD v k) (pL v k) t ((hWn.2.2.2.2.2.1 k (by omega)).1) (by omega) (by omega)) ((hWn.2.2.2.2.2.1 k (by omega)).1) rfl q679 q680 q681 q96 q682 rfl (by decide +kernel) rfl ⟨⟨Nat.le_of_ble_eq_true rfl, Nat.le_of_ble_eq_true rfl⟩, ⟨(Nat.le_of_ble_eq_true rfl), (Nat.le_of_ble_eq_true rfl)⟩⟩ (Nat.le_of_ble_eq_true rfl) hl.1 rfl dX9_from_104 cX_no (fun r18 σ18 H locs hp18 hW => ?_)
                  obtain ⟨rfl, hs18⟩ := hp18
                  rw [hs18] at hW
                  refine W.eq (g2 := F0 m_ 107 ls (.int (nI (oth (pA v k) (pB v k) t)) :: .ref h :: [])) rfl ?_
                  refine s_callV (As := [.int (nI (oth (pA v k) (pB v k) t))]) (rest := []) (C := RX9) (T := TX9) (N := 4) (n := 1) F hW (k_X9_from_1 g l σk L v h ar s (oth (pA v k) (pB v k) t) c Bk hWn hI e0n ean ba hs (oth_lt hpq.1 hpq.2.1) c_98 (by have := unvN_lt hWI.2.1 hR hWI.1 8 (by omega); unfold unv at hun ⊢; omega)) (e0n) rfl q683 q319 q320 q107 q321 rfl (by decide +kernel) rfl ⟨⟨Nat.le_of_ble_eq_true rfl, Nat.le_of_ble_eq_true rfl⟩, ⟨(Nat.le_of_ble_eq_true rfl), (Nat.le_of_ble_eq_true rfl)⟩⟩ (Nat.le_of_ble_eq_true rfl) hl.1 rfl dX9_from_107 cX_no (fun r19 σ19 H locs hp19 hW => ?_)
                  obtain ⟨rfl, B9, hσ9, hP9⟩ := hp19
                  refine W.eq (g2 := F0 m_ 110 ls ([])) rfl ?_
                  refine lv_iinc (k := 4) (v := (nI (k + 1))) (lv' := [(2, .int (nI (k + 1))), (4, .int (bI (use v s c k))), (3, .ref (L (100 + k))), (0, .ref h), (1, .int (nI t))]) F.x F.cd dX9_from_110 hl rfl (inc_nI k 1) (by decide) rfl (fun ls hl => ?_)
                  refine lv_goto (tgt := 9) F.x F.cd dX9_from_113 (by decide) ?_
                  exact ih9 (k + 1) σ19 B9 (by omega) (by rw [hσ9, hσk, sset_sset]) (hWI.step hI (by omega) c_77 c_85 hP9) H locs ls hW (lv_sub hl [3, 4, 0] rfl)
          · refine lv_aload_n F.x F.cd dX9_from_57 rfl (lv_at hl 0 rfl) ?_
            refine s_getN F hW (ci := 9) (C := RX5) (T := TX5) (N := 7) (v := .int (nI (pV v k))) ((hWn.2.2.2.2.2.1 k (by omega)).1) rfl in_X5 3 (by decide) q1078 (fun _ h9 => h9) rfl dX9_from_58 ?_
            refine lv_aload_n F.x F.cd dX9_from_61 rfl (lv_at hl 1 rfl) ?_
            refine s_get F hW (ci := 12) (C := RX9) (T := TX9) (N := 4) (v := .int (nI s)) (e0n) rfl in_X9 1 (by decide) q303 (fun _ h9 => h9) rfl dX9_from_62 ?_
            refine n_icmp_lt (a := pV v k) (b := s) (tgt := 72) F (by omega) (by omega) dX9_from_65 (by decide) (fun c_65 => ?_) (fun c_65 => ?_)
            · refine lv_iconst (v := (nI 0)) F.x F.cd dX9_from_72 (by decide) ?_
              refine W.eq (g2 := F0 m_ 73 ls (.int (bI (use v s c k)) :: [])) (by rw [show use v s c k = false by first | (simp [use, c_47, c_54, c_65]; done) | (simp [use, c_47, c_54, c_65]; omega)]; rfl) ?_
              refine lv_istore (lv' := [(4, .int (bI (use v s c k))), (3, .ref (L (100 + k))), (0, .ref h), (1, .int (nI t)), (2, .int (nI k))]) F.x F.cd dX9_from_73 hl (by decide) rfl (fun ls hl => ?_)
              refine lv_iload F.x F.cd dX9_from_75 (lv_at hl 0 rfl) ?_
              refine b_if_eq (b := (use v s c k)) (tgt := 110) F dX9_from_77 (by decide) (fun c_77 => ?_) (fun c_77 => ?_)
              · refine lv_iinc (k := 4) (v := (nI (k + 1))) (lv' := [(2, .int (nI (k + 1))), (4, .int (bI (use v s c k))), (3, .ref (L (100 + k))), (0, .ref h), (1, .int (nI t))]) F.x F.cd dX9_from_110 hl rfl (inc_nI k 1) (by decide) rfl (fun ls hl => ?_)
                refine lv_goto (tgt := 9) F.x F.cd dX9_from_113 (by decide) ?_
                exact ih9 (k + 1) σk Bk (by omega) (hσk) (hWI.skip (Or.inl c_77)) H locs ls hW (lv_sub hl [3, 4, 0] rfl)
              · refine lv_aload_n F.x F.cd dX9_from_80 rfl (lv_at hl 1 rfl) ?_
                refine lv_iload_n F.x F.cd dX9_from_81 rfl (lv_at hl 3 rfl) ?_
                refine s_callV (As := [.int (nI t)]) (rest := []) (C := RX5) (T := TX5) (N := 7) (n := 1) F hW (k_X5_touches g l σk (L (100 + k)) (pA v k) (pB v k) (pM v k) (pV v k) (pR v k) (pD v k) (pL v k) t ((hWn.2.2.2.2.2.1 k (by omega)).1) (by omega) (by omega) (by omega)) ((hWn.2.2.2.2.2.1 k (by omega)).1) rfl q675 q676 q677 q96 q678 rfl (by decide +kernel) rfl ⟨⟨Nat.le_of_ble_eq_true rfl, Nat.le_of_ble_eq_true rfl⟩, ⟨(Nat.le_of_ble_eq_true rfl), (Nat.le_of_ble_eq_true rfl)⟩⟩ (Nat.le_of_ble_eq_true rfl) hl.1 rfl dX9_from_82 cX_no (fun r20 σ20 H locs hp20 hW => ?_)
                obtain ⟨rfl, hs20⟩ := hp20
                rw [hs20] at hW
                refine W.eq (g2 := F0 m_ 85 ls (.int (bI (tch (pA v k) (pB v k) t)) :: [])) rfl ?_
                refine b_if_eq (b := (tch (pA v k) (pB v k) t)) (tgt := 110) F dX9_from_85 (by decide) (fun c_85 => ?_) (fun c_85 => ?_)
                · refine lv_iinc (k := 4) (v := (nI (k + 1))) (lv' := [(2, .int (nI (k + 1))), (4, .int (bI (use v s c k))), (3, .ref (L (100 + k))), (0, .ref h), (1, .int (nI t))]) F.x F.cd dX9_from_110 hl rfl (inc_nI k 1) (by decide) rfl (fun ls hl => ?_)
                  refine lv_goto (tgt := 9) F.x F.cd dX9_from_113 (by decide) ?_
                  exact ih9 (k + 1) σk Bk (by omega) (hσk) (hWI.skip (Or.inr (Or.inl c_85))) H locs ls hW (lv_sub hl [3, 4, 0] rfl)
                · refine lv_aload_n F.x F.cd dX9_from_88 rfl (lv_at hl 2 rfl) ?_
                  refine s_get F hW (ci := 12) (C := RX9) (T := TX9) (N := 4) (v := .ref ar) (e0n) rfl in_X9 0 (by decide) q301 (fun _ h9 => h9) rfl dX9_from_89 ?_
                  refine lv_aload_n F.x F.cd dX9_from_92 rfl (lv_at hl 1 rfl) ?_
                  refine lv_iload_n F.x F.cd dX9_from_93 rfl (lv_at hl 3 rfl) ?_
                  refine s_callV (As := [.int (nI t)]) (rest := [.ref ar]) (C := RX5) (T := TX5) (N := 7) (n := 1) F hW (k_X5_otherEnd g l σk (L (100 + k)) (pA v k) (pB v k) (pM v k) (pV v k) (pR v k) (pD v k) (pL v k) t ((hWn.2.2.2.2.2.1 k (by omega)).1) (by omega) (by omega)) ((hWn.2.2.2.2.2.1 k (by omega)).1) rfl q679 q680 q681 q96 q682 rfl (by decide +kernel) rfl ⟨⟨Nat.le_of_ble_eq_true rfl, Nat.le_of_ble_eq_true rfl⟩, ⟨(Nat.le_of_ble_eq_true rfl), (Nat.le_of_ble_eq_true rfl)⟩⟩ (Nat.le_of_ble_eq_true rfl) hl.1 rfl dX9_from_94 cX_no (fun r21 σ21 H locs hp21 hW => ?_)
                  obtain ⟨rfl, hs21⟩ := hp21
                  rw [hs21] at hW
                  refine W.eq (g2 := F0 m_ 97 ls (.int (nI (oth (pA v k) (pB v k) t)) :: .ref ar :: [])) rfl ?_
                  refine n_zald (i := oth (pA v k) (pB v k) t) (n := 8) (f := (fun x9 => bI (Bk x9))) (x := (bI (Bk (oth (pA v k) (pB v k) t)))) F hW (ean) (Nat.lt_of_lt_of_le (oth_lt hpq.1 hpq.2.1) hI.1) (by omega) (rfl) dX9_from_97 ?_
                  refine b_if_ne (b := (Bk (oth (pA v k) (pB v k) t))) (tgt := 110) F dX9_from_98 (by decide) (fun c_98 => ?_) (fun c_98 => ?_)
                  · refine lv_iinc (k := 4) (v := (nI (k + 1))) (lv' := [(2, .int (nI (k + 1))), (4, .int (bI (use v s c k))), (3, .ref (L (100 + k))), (0, .ref h), (1, .int (nI t))]) F.x F.cd dX9_from_110 hl rfl (inc_nI k 1) (by decide) rfl (fun ls hl => ?_)
                    refine lv_goto (tgt := 9) F.x F.cd dX9_from_113 (by decide) ?_
                    exact ih9 (k + 1) σk Bk (by omega) (hσk) (hWI.skip (Or.inr (Or.inr c_98))) H locs ls hW (lv_sub hl [3, 4, 0] rfl)
                  · refine lv_aload_n F.x F.cd dX9_from_101 rfl (lv_at hl 2 rfl) ?_
                    refine lv_aload_n F.x F.cd dX9_from_102 rfl (lv_at hl 1 rfl) ?_
                    refine lv_iload_n F.x F.cd dX9_from_103 rfl (lv_at hl 3 rfl) ?_
                    refine s_callV (As := [.int (nI t)]) (rest := [.ref h]) (C := RX5) (T := TX5) (N := 7) (n := 1) F hW (k_X5_otherEnd g l σk (L (100 + k)) (pA v k) (pB v k) (pM v k) (pV v k) (pR v k) (pD v k) (pL v k) t ((hWn.2.2.2.2.2.1 k (by omega)).1) (by omega) (by omega)) ((hWn.2.2.2.2.2.1 k (by omega)).1) rfl q679 q680 q681 q96 q682 rfl (by decide +kernel) rfl ⟨⟨Nat.le_of_ble_eq_true rfl, Nat.le_of_ble_eq_true rfl⟩, ⟨(Nat.le_of_ble_eq_true rfl), (Nat.le_of_ble_eq_true rfl)⟩⟩ (Nat.le_of_ble_eq_true rfl) hl.1 rfl dX9_from_104 cX_no (fun r22 σ22 H locs hp22 hW => ?_)
                    obtain ⟨rfl, hs22⟩ := hp22
                    rw [hs22] at hW
                    refine W.eq (g2 := F0 m_ 107 ls (.int (nI (oth (pA v k) (pB v k) t)) :: .ref h :: [])) rfl ?_
                    refine s_callV (As := [.int (nI (oth (pA v k) (pB v k) t))]) (rest := []) (C := RX9) (T := TX9) (N := 4) (n := 1) F hW (k_X9_from_1 g l σk L v h ar s (oth (pA v k) (pB v k) t) c Bk hWn hI e0n ean ba hs (oth_lt hpq.1 hpq.2.1) c_98 (by have := unvN_lt hWI.2.1 hR hWI.1 8 (by omega); unfold unv at hun ⊢; omega)) (e0n) rfl q683 q319 q320 q107 q321 rfl (by decide +kernel) rfl ⟨⟨Nat.le_of_ble_eq_true rfl, Nat.le_of_ble_eq_true rfl⟩, ⟨(Nat.le_of_ble_eq_true rfl), (Nat.le_of_ble_eq_true rfl)⟩⟩ (Nat.le_of_ble_eq_true rfl) hl.1 rfl dX9_from_107 cX_no (fun r23 σ23 H locs hp23 hW => ?_)
                    obtain ⟨rfl, B9, hσ9, hP9⟩ := hp23
                    refine W.eq (g2 := F0 m_ 110 ls ([])) rfl ?_
                    refine lv_iinc (k := 4) (v := (nI (k + 1))) (lv' := [(2, .int (nI (k + 1))), (4, .int (bI (use v s c k))), (3, .ref (L (100 + k))), (0, .ref h), (1, .int (nI t))]) F.x F.cd dX9_from_110 hl rfl (inc_nI k 1) (by decide) rfl (fun ls hl => ?_)
                    refine lv_goto (tgt := 9) F.x F.cd dX9_from_113 (by decide) ?_
                    exact ih9 (k + 1) σ23 B9 (by omega) (by rw [hσ9, hσk, sset_sset]) (hWI.step hI (by omega) c_77 c_85 hP9) H locs ls hW (lv_sub hl [3, 4, 0] rfl)
            · refine lv_iconst (v := (nI 1)) F.x F.cd dX9_from_68 (by decide) ?_
              refine lv_goto (tgt := 73) F.x F.cd dX9_from_69 (by decide) ?_
              refine W.eq (g2 := F0 m_ 73 ls (.int (bI (use v s c k)) :: [])) (by rw [show use v s c k = true by first | (simp [use, c_47, c_54, c_65]; done) | (simp [use, c_47, c_54, c_65]; omega)]; rfl) ?_
              refine lv_istore (lv' := [(4, .int (bI (use v s c k))), (3, .ref (L (100 + k))), (0, .ref h), (1, .int (nI t)), (2, .int (nI k))]) F.x F.cd dX9_from_73 hl (by decide) rfl (fun ls hl => ?_)
              refine lv_iload F.x F.cd dX9_from_75 (lv_at hl 0 rfl) ?_
              refine b_if_eq (b := (use v s c k)) (tgt := 110) F dX9_from_77 (by decide) (fun c_77 => ?_) (fun c_77 => ?_)
              · refine lv_iinc (k := 4) (v := (nI (k + 1))) (lv' := [(2, .int (nI (k + 1))), (4, .int (bI (use v s c k))), (3, .ref (L (100 + k))), (0, .ref h), (1, .int (nI t))]) F.x F.cd dX9_from_110 hl rfl (inc_nI k 1) (by decide) rfl (fun ls hl => ?_)
                refine lv_goto (tgt := 9) F.x F.cd dX9_from_113 (by decide) ?_
                exact ih9 (k + 1) σk Bk (by omega) (hσk) (hWI.skip (Or.inl c_77)) H locs ls hW (lv_sub hl [3, 4, 0] rfl)
              · refine lv_aload_n F.x F.cd dX9_from_80 rfl (lv_at hl 1 rfl) ?_
                refine lv_iload_n F.x F.cd dX9_from_81 rfl (lv_at hl 3 rfl) ?_
                refine s_callV (As := [.int (nI t)]) (rest := []) (C := RX5) (T := TX5) (N := 7) (n := 1) F hW (k_X5_touches g l σk (L (100 + k)) (pA v k) (pB v k) (pM v k) (pV v k) (pR v k) (pD v k) (pL v k) t ((hWn.2.2.2.2.2.1 k (by omega)).1) (by omega) (by omega) (by omega)) ((hWn.2.2.2.2.2.1 k (by omega)).1) rfl q675 q676 q677 q96 q678 rfl (by decide +kernel) rfl ⟨⟨Nat.le_of_ble_eq_true rfl, Nat.le_of_ble_eq_true rfl⟩, ⟨(Nat.le_of_ble_eq_true rfl), (Nat.le_of_ble_eq_true rfl)⟩⟩ (Nat.le_of_ble_eq_true rfl) hl.1 rfl dX9_from_82 cX_no (fun r24 σ24 H locs hp24 hW => ?_)
                obtain ⟨rfl, hs24⟩ := hp24
                rw [hs24] at hW
                refine W.eq (g2 := F0 m_ 85 ls (.int (bI (tch (pA v k) (pB v k) t)) :: [])) rfl ?_
                refine b_if_eq (b := (tch (pA v k) (pB v k) t)) (tgt := 110) F dX9_from_85 (by decide) (fun c_85 => ?_) (fun c_85 => ?_)
                · refine lv_iinc (k := 4) (v := (nI (k + 1))) (lv' := [(2, .int (nI (k + 1))), (4, .int (bI (use v s c k))), (3, .ref (L (100 + k))), (0, .ref h), (1, .int (nI t))]) F.x F.cd dX9_from_110 hl rfl (inc_nI k 1) (by decide) rfl (fun ls hl => ?_)
                  refine lv_goto (tgt := 9) F.x F.cd dX9_from_113 (by decide) ?_
                  exact ih9 (k + 1) σk Bk (by omega) (hσk) (hWI.skip (Or.inr (Or.inl c_85))) H locs ls hW (lv_sub hl [3, 4, 0] rfl)
                · refine lv_aload_n F.x F.cd dX9_from_88 rfl (lv_at hl 2 rfl) ?_
                  refine s_get F hW (ci := 12) (C := RX9) (T := TX9) (N := 4) (v := .ref ar) (e0n) rfl in_X9 0 (by decide) q301 (fun _ h9 => h9) rfl dX9_from_89 ?_
                  refine lv_aload_n F.x F.cd dX9_from_92 rfl (lv_at hl 1 rfl) ?_
                  refine lv_iload_n F.x F.cd dX9_from_93 rfl (lv_at hl 3 rfl) ?_
                  refine s_callV (As := [.int (nI t)]) (rest := [.ref ar]) (C := RX5) (T := TX5) (N := 7) (n := 1) F hW (k_X5_otherEnd g l σk (L (100 + k)) (pA v k) (pB v k) (pM v k) (pV v k) (pR v k) (pD v k) (pL v k) t ((hWn.2.2.2.2.2.1 k (by omega)).1) (by omega) (by omega)) ((hWn.2.2.2.2.2.1 k (by omega)).1) rfl q679 q680 q681 q96 q682 rfl (by decide +kernel) rfl ⟨⟨Nat.le_of_ble_eq_true rfl, Nat.le_of_ble_eq_true rfl⟩, ⟨(Nat.le_of_ble_eq_true rfl), (Nat.le_of_ble_eq_true rfl)⟩⟩ (Nat.le_of_ble_eq_true rfl) hl.1 rfl dX9_from_94 cX_no (fun r25 σ25 H locs hp25 hW => ?_)
                  obtain ⟨rfl, hs25⟩ := hp25
                  rw [hs25] at hW
                  refine W.eq (g2 := F0 m_ 97 ls (.int (nI (oth (pA v k) (pB v k) t)) :: .ref ar :: [])) rfl ?_
                  refine n_zald (i := oth (pA v k) (pB v k) t) (n := 8) (f := (fun x9 => bI (Bk x9))) (x := (bI (Bk (oth (pA v k) (pB v k) t)))) F hW (ean) (Nat.lt_of_lt_of_le (oth_lt hpq.1 hpq.2.1) hI.1) (by omega) (rfl) dX9_from_97 ?_
                  refine b_if_ne (b := (Bk (oth (pA v k) (pB v k) t))) (tgt := 110) F dX9_from_98 (by decide) (fun c_98 => ?_) (fun c_98 => ?_)
                  · refine lv_iinc (k := 4) (v := (nI (k + 1))) (lv' := [(2, .int (nI (k + 1))), (4, .int (bI (use v s c k))), (3, .ref (L (100 + k))), (0, .ref h), (1, .int (nI t))]) F.x F.cd dX9_from_110 hl rfl (inc_nI k 1) (by decide) rfl (fun ls hl => ?_)
                    refine lv_goto (tgt := 9) F.x F.cd dX9_from_113 (by decide) ?_
                    exact ih9 (k + 1) σk Bk (by omega) (hσk) (hWI.skip (Or.inr (Or.inr c_98))) H locs ls hW (lv_sub hl [3, 4, 0] rfl)
                  · refine lv_aload_n F.x F.cd dX9_from_101 rfl (lv_at hl 2 rfl) ?_
                    refine lv_aload_n F.x F.cd dX9_from_102 rfl (lv_at hl 1 rfl) ?_
                    refine lv_iload_n F.x F.cd dX9_from_103 rfl (lv_at hl 3 rfl) ?_
                    refine s_callV (As := [.int (nI t)]) (rest := [.ref h]) (C := RX5) (T := TX5) (N := 7) (n := 1) F hW (k_X5_otherEnd g l σk (L (100 + k)) (pA v k) (pB v k) (pM v k) (pV v k) (pR v k) (pD v k) (pL v k) t ((hWn.2.2.2.2.2.1 k (by omega)).1) (by omega) (by omega)) ((hWn.2.2.2.2.2.1 k (by omega)).1) rfl q679 q680 q681 q96 q682 rfl (by decide +kernel) rfl ⟨⟨Nat.le_of_ble_eq_true rfl, Nat.le_of_ble_eq_true rfl⟩, ⟨(Nat.le_of_ble_eq_true rfl), (Nat.le_of_ble_eq_true rfl)⟩⟩ (Nat.le_of_ble_eq_true rfl) hl.1 rfl dX9_from_104 cX_no (fun r26 σ26 H locs hp26 hW => ?_)
                    obtain ⟨rfl, hs26⟩ := hp26
                    rw [hs26] at hW
                    refine W.eq (g2 := F0 m_ 107 ls (.int (nI (oth (pA v k) (pB v k) t)) :: .ref h :: [])) rfl ?_
                    refine s_callV (As := [.int (nI (oth (pA v k) (pB v k) t))]) (rest := []) (C := RX9) (T := TX9) (N := 4) (n := 1) F hW (k_X9_from_1 g l σk L v h ar s (oth (pA v k) (pB v k) t) c Bk hWn hI e0n ean ba hs (oth_lt hpq.1 hpq.2.1) c_98 (by have := unvN_lt hWI.2.1 hR hWI.1 8 (by omega); unfold unv at hun ⊢; omega)) (e0n) rfl q683 q319 q320 q107 q321 rfl (by decide +kernel) rfl ⟨⟨Nat.le_of_ble_eq_true rfl, Nat.le_of_ble_eq_true rfl⟩, ⟨(Nat.le_of_ble_eq_true rfl), (Nat.le_of_ble_eq_true rfl)⟩⟩ (Nat.le_of_ble_eq_true rfl) hl.1 rfl dX9_from_107 cX_no (fun r27 σ27 H locs hp27 hW => ?_)
                    obtain ⟨rfl, B9, hσ9, hP9⟩ := hp27
                    refine W.eq (g2 := F0 m_ 110 ls ([])) rfl ?_
                    refine lv_iinc (k := 4) (v := (nI (k + 1))) (lv' := [(2, .int (nI (k + 1))), (4, .int (bI (use v s c k))), (3, .ref (L (100 + k))), (0, .ref h), (1, .int (nI t))]) F.x F.cd dX9_from_110 hl rfl (inc_nI k 1) (by decide) rfl (fun ls hl => ?_)
                    refine lv_goto (tgt := 9) F.x F.cd dX9_from_113 (by decide) ?_
                    exact ih9 (k + 1) σ27 B9 (by omega) (by rw [hσ9, hσk, sset_sset]) (hWI.step hI (by omega) c_77 c_85 hP9) H locs ls hW (lv_sub hl [3, 4, 0] rfl)
  exact loop9 (v 1) 0 _ _ (by omega) (hσ0) (WI.start) H locs ls hW (lv_sub hl [1, 2, 0] rfl)
set_option maxHeartbeats 4000000 in
theorem k_X9_from_3 (g : Gh) (l : Launch) (σ : Sto) (L v : Nat → Nat) (h ar s t : Nat) (c : Int32) (B : Nat → Bool) (hWk : IsWorks g σ L v) (hI : Inv v) (e0 : σ h = some (.inr (12, [.ref ar, .int (nI s), .int c, .ref (L 0)]))) (ea : σ ar = some (eI g 2 8 (fun j => bI (B j)))) (ba : gB g ≤ ar) (hs : s < 2 ^ 30) (ht : t < v 0) (hR : B t = false) (hun : unv B ≤ 3) : Ct g l yX9_from cX9_from 5 none ({ frames := 5, cells := 0, slots := 0, locals := 112 } : Room) [.ref h, .int (nI t)] σ (fun r σ' => r = none ∧ ∃ R' : Nat → Bool, σ' = sset σ ar (eI g 2 8 (fun j => bI (R' j))) ∧ WP v s c B t R') (nox) := by
  refine Ct.body (by decide) (Nat.le_of_ble_eq_true rfl) ?_
  intro p_ e_ s_ m_ args_ below_ meth_ c_ ls H locs Q F hW hl hQ
  have hl : lv_has ls 5 [(0, .ref h), (1, .int (nI t))] := hl
  have hT := hWk.2.2.1
  have hP := hWk.2.2.2.1
  obtain ⟨mcT, nT, fT, eT, bT, -⟩ := id hT
  obtain ⟨mcP, nP, fP, eP, bP, -⟩ := id hP
  have hv0 := hI.1
  have hv1 := hI.2.1
  refine lv_aload_n F.x F.cd dX9_from_0 rfl (lv_at hl 0 rfl) ?_
  refine s_get F hW (ci := 12) (C := RX9) (T := TX9) (N := 4) (v := .ref ar) (e0) rfl in_X9 0 (by decide) q301 (fun _ h9 => h9) rfl dX9_from_1 ?_
  refine lv_iload_n F.x F.cd dX9_from_4 rfl (lv_at hl 1 rfl) ?_
  refine lv_iconst (v := (nI 1)) F.x F.cd dX9_from_5 (by decide) ?_
  refine n_zast (i := t) F hW (ea) (ba) (by omega) (by omega) (show narrow .boolean (.int (nI 1)) = .int (nI 1) by decide) dX9_from_6 (fun H locs hW => ?_)
  obtain ⟨σ1, hσ1⟩ : ∃ z, z = sset σ ar (eI g 2 8 (upd (fun x9 => bI (B x9)) t (nI 1))) := ⟨_, rfl⟩
  have hW : Hl g σ1 H locs := by rw [hσ1]; exact hW
  have w1 : σ1 ar = some (eI g 2 8 (upd (fun x9 => bI (B x9)) t (nI 1))) := by rw [hσ1]; exact sset_eq
  have f2 : σ1 (L 0) = some (.inr (1, [.ref (L 1), .ref (L 2), .int (nI (v 2)), .int (nI (v 3)), .int (nI (v 4)), .int (nI (v 5))])) := by rw [hσ1, sset_ne (sto_ne ea hWk.1 (by simp))]; exact hWk.1
  have f3 : σ1 (L 1) = some (.inr (2, [.int mcT, .ref (L 3), .int (nI (v 0))])) := by rw [hσ1, sset_ne (sto_ne ea eT (by simp))]; exact eT
  have j4 := IsList.setI (e := eI g 2 8 (upd (fun x9 => bI (B x9)) t (nI 1))) (hT) (ea)
  rw [← hσ1] at j4
  have f5 : σ1 (L 2) = some (.inr (2, [.int mcP, .ref (L 4), .int (nI (v 1))])) := by rw [hσ1, sset_ne (sto_ne ea eP (by simp))]; exact eP
  have j6 := IsList.setI (e := eI g 2 8 (upd (fun x9 => bI (B x9)) t (nI 1))) (hP) (ea)
  rw [← hσ1] at j6
  have f7 : σ1 h = some (.inr (12, [.ref ar, .int (nI s), .int c, .ref (L 0)])) := by rw [hσ1, sset_ne (sto_ne ea e0 (by simp))]; exact e0
  have hσ0 : σ1 = sset σ ar (eI g 2 8 (fun j => bI (va_up B t true j))) := by rw [hσ1, updB]
  refine lv_iconst (v := (nI 0)) F.x F.cd dX9_from_7 (by decide) ?_
  refine lv_istore_n (lv' := [(2, .int (nI 0)), (0, .ref h), (1, .int (nI t))]) F.x F.cd dX9_from_8 rfl hl (by decide) rfl (fun ls hl => ?_)
  have loop9 : ∀ (n : Nat) (k : Nat) (σk : Sto) (Bk : Nat → Bool), k + n = v 1 → (σk = sset σ ar (eI g 2 8 (fun j => bI (Bk j)))) → WI v s c B t Bk k → ∀ (H : Heap) (locs : List Loc) (ls : Array Slot), Hl g σk H locs → lv_has ls 5 [(0, .ref h), (1, .int (nI t)), (2, .int (nI k))] → W p_ l e_ ({ frames := 5, cells := 0, slots := 0, locals := 112 } : Room) s_ m_ args_ below_ meth_ c_ H locs 0 0 Q (F0 m_ 9 ls ([])) := by
    intro n
    induction n with
    | zero =>
      intro k σk Bk hkn hσk hWI H locs ls hW hl
      have hWn : IsWorks g σk L v := by rw [hσk]; exact hWk.setI ea
      have e0n : σk h = some (.inr (12, [.ref ar, .int (nI s), .int c, .ref (L 0)])) := by rw [hσk, sset_ne (sto_ne ea e0 (by simp))]; exact e0
      have ean : σk ar = some (eI g 2 8 (fun j => bI (Bk j))) := by rw [hσk, sset_eq]
      have hT_k := hWn.2.2.1
      have hP_k := hWn.2.2.2.1
      obtain ⟨mcT_k, nT_k, fT_k, eT_k, bT_k, -⟩ := id hT_k
      obtain ⟨mcP_k, nP_k, fP_k, eP_k, bP_k, -⟩ := id hP_k
      have hv0_k := hI.1
      have hv1_k := hI.2.1
      refine lv_iload_n F.x F.cd dX9_from_9 rfl (lv_at hl 2 rfl) ?_
      refine lv_aload_n F.x F.cd dX9_from_10 rfl (lv_at hl 0 rfl) ?_
      refine s_get F hW (ci := 12) (C := RX9) (T := TX9) (N := 4) (v := .ref (L 0)) (e0n) rfl in_X9 3 (by decide) q305 (fun _ h9 => h9) rfl dX9_from_11 ?_
      refine s_getN F hW (ci := 1) (C := RX2) (T := TX2) (N := 6) (v := .ref (L 2)) (hWn.1) rfl in_X2 1 (by decide) q163 (fun _ h9 => h9) rfl dX9_from_14 ?_
      refine s_callF (As := []) (rest := [.int (nI k)]) (C := RJ2) (T := TJ2) (N := 3) (n := 0) F hW (k_J2_size g l σk _ _ _ _ hP_k) (eP_k) rfl (List.mem_of_getElem? (i := 0) rfl) q323 q272 q274 q72 q276 (by decide +kernel) rfl ⟨⟨Nat.le_of_ble_eq_true rfl, Nat.le_of_ble_eq_true rfl⟩, ⟨(Nat.le_of_ble_eq_true rfl), (Nat.le_of_ble_eq_true rfl)⟩⟩ (Nat.le_of_ble_eq_true rfl) hl.1 rfl dX9_from_17 cX_no (fun r8 σ8 H locs hp8 hW => ?_)
      obtain ⟨rfl, hs8⟩ := hp8
      rw [hs8] at hW
      refine W.eq (g2 := F0 m_ 22 ls (.int (nI (v 1)) :: .int (nI k) :: [])) rfl ?_
      refine n_icmp_ge (a := k) (b := v 1) (tgt := 116) F (by omega) (by omega) dX9_from_22 (by decide) (fun c_22 => ?_) (fun c_22 => ?_)
      · subst hQ
        exact s_retv F hW (⟨rfl, Bk, hσk, WI.done hI (by rw [← show k = v 1 by omega]; exact hWI)⟩) ⟨(Nat.le_of_ble_eq_true rfl), (Nat.le_of_ble_eq_true rfl)⟩ dX9_from_116
      · exact absurd c_22 (by omega)
    | succ n ih9 =>
      intro k σk Bk hkn hσk hWI H locs ls hW hl
      have hWn : IsWorks g σk L v := by rw [hσk]; exact hWk.setI ea
      have e0n : σk h = some (.inr (12, [.ref ar, .int (nI s), .int c, .ref (L 0)])) := by rw [hσk, sset_ne (sto_ne ea e0 (by simp))]; exact e0
      have ean : σk ar = some (eI g 2 8 (fun j => bI (Bk j))) := by rw [hσk, sset_eq]
      have hT_k := hWn.2.2.1
      have hP_k := hWn.2.2.2.1
      obtain ⟨mcT_k, nT_k, fT_k, eT_k, bT_k, -⟩ := id hT_k
      obtain ⟨mcP_k, nP_k, fP_k, eP_k, bP_k, -⟩ := id hP_k
      have hv0_k := hI.1
      have hv1_k := hI.2.1
      refine lv_iload_n F.x F.cd dX9_from_9 rfl (lv_at hl 2 rfl) ?_
      refine lv_aload_n F.x F.cd dX9_from_10 rfl (lv_at hl 0 rfl) ?_
      refine s_get F hW (ci := 12) (C := RX9) (T := TX9) (N := 4) (v := .ref (L 0)) (e0n) rfl in_X9 3 (by decide) q305 (fun _ h9 => h9) rfl dX9_from_11 ?_
      refine s_getN F hW (ci := 1) (C := RX2) (T := TX2) (N := 6) (v := .ref (L 2)) (hWn.1) rfl in_X2 1 (by decide) q163 (fun _ h9 => h9) rfl dX9_from_14 ?_
      refine s_callF (As := []) (rest := [.int (nI k)]) (C := RJ2) (T := TJ2) (N := 3) (n := 0) F hW (k_J2_size g l σk _ _ _ _ hP_k) (eP_k) rfl (List.mem_of_getElem? (i := 0) rfl) q323 q272 q274 q72 q276 (by decide +kernel) rfl ⟨⟨Nat.le_of_ble_eq_true rfl, Nat.le_of_ble_eq_true rfl⟩, ⟨(Nat.le_of_ble_eq_true rfl), (Nat.le_of_ble_eq_true rfl)⟩⟩ (Nat.le_of_ble_eq_true rfl) hl.1 rfl dX9_from_17 cX_no (fun r9 σ9 H locs hp9 hW => ?_)
      obtain ⟨rfl, hs9⟩ := hp9
      rw [hs9] at hW
      refine W.eq (g2 := F0 m_ 22 ls (.int (nI (v 1)) :: .int (nI k) :: [])) rfl ?_
      refine n_icmp_ge (a := k) (b := v 1) (tgt := 116) F (by omega) (by omega) dX9_from_22 (by decide) (fun c_22 => ?_) (fun c_22 => ?_)
      · exact absurd c_22 (by omega)
      · have hpq := hI.pp (q := k) (by omega)
        refine lv_aload_n F.x F.cd dX9_from_25 rfl (lv_at hl 0 rfl) ?_
        refine s_get F hW (ci := 12) (C := RX9) (T := TX9) (N := 4) (v := .ref (L 0)) (e0n) rfl in_X9 3 (by decide) q305 (fun _ h9 => h9) rfl dX9_from_26 ?_
        refine s_getN F hW (ci := 1) (C := RX2) (T := TX2) (N := 6) (v := .ref (L 2)) (hWn.1) rfl in_X2 1 (by decide) q163 (fun _ h9 => h9) rfl dX9_from_29 ?_
        refine lv_iload_n F.x F.cd dX9_from_32 rfl (lv_at hl 2 rfl) ?_
        refine s_callF (As := [.int (nI k)]) (rest := []) (C := RJ2) (T := TJ2) (N := 3) (n := 1) F hW (k_J2_get g l σk _ _ _ _ k hP_k (by omega)) (eP_k) rfl (List.mem_of_getElem? (i := 1) rfl) q325 q328 q330 q72 q332 (by decide +kernel) rfl ⟨⟨Nat.le_of_ble_eq_true rfl, Nat.le_of_ble_eq_true rfl⟩, ⟨(Nat.le_of_ble_eq_true rfl), (Nat.le_of_ble_eq_true rfl)⟩⟩ (Nat.le_of_ble_eq_true rfl) hl.1 rfl dX9_from_33 cX_no (fun r10 σ10 H locs hp10 hW => ?_)
        obtain ⟨rfl, hs10⟩ := hp10
        rw [hs10] at hW
        refine W.eq (g2 := F0 m_ 38 ls (.ref (L (100 + k)) :: [])) rfl ?_
        refine s_cast_ F hW (C := RX5) (T := TX5) (N := 7) ((hWn.2.2.2.2.2.1 k (by omega)).1) rfl q670 dX9_from_38 ?_
        refine lv_astore_n (lv' := [(3, .ref (L (100 + k))), (0, .ref h), (1, .int (nI t)), (2, .int (nI k))]) F.x F.cd dX9_from_41 rfl hl (by decide) rfl (fun ls hl => ?_)
        refine lv_iload_n F.x F.cd dX9_from_42 rfl (lv_at hl 3 rfl) ?_
        refine lv_aload_n F.x F.cd dX9_from_43 rfl (lv_at hl 1 rfl) ?_
        refine s_get F hW (ci := 12) (C := RX9) (T := TX9) (N := 4) (v := .int c) (e0n) rfl in_X9 2 (by decide) q304 (fun _ h9 => h9) rfl dX9_from_44 ?_
        refine lv_icmp_eq (x := (nI k)) (y := c) (tgt := 72) F.x F.cd dX9_from_47 (by decide) (fun c_47 => ?_) (fun c_47 => ?_)
        · refine lv_iconst (v := (nI 0)) F.x F.cd dX9_from_72 (by decide) ?_
          refine W.eq (g2 := F0 m_ 73 ls (.int (bI (use v s c k)) :: [])) (by rw [show use v s c k = false by first | (simp [use, c_47]; done) | (simp [use, c_47]; omega)]; rfl) ?_
          refine lv_istore (lv' := [(4, .int (bI (use v s c k))), (3, .ref (L (100 + k))), (0, .ref h), (1, .int (nI t)), (2, .int (nI k))]) F.x F.cd dX9_from_73 hl (by decide) rfl (fun ls hl => ?_)
          refine lv_iload F.x F.cd dX9_from_75 (lv_at hl 0 rfl) ?_
          refine b_if_eq (b := (use v s c k)) (tgt := 110) F dX9_from_77 (by decide) (fun c_77 => ?_) (fun c_77 => ?_)
          · refine lv_iinc (k := 4) (v := (nI (k + 1))) (lv' := [(2, .int (nI (k + 1))), (4, .int (bI (use v s c k))), (3, .ref (L (100 + k))), (0, .ref h), (1, .int (nI t))]) F.x F.cd dX9_from_110 hl rfl (inc_nI k 1) (by decide) rfl (fun ls hl => ?_)
            refine lv_goto (tgt := 9) F.x F.cd dX9_from_113 (by decide) ?_
            exact ih9 (k + 1) σk Bk (by omega) (hσk) (hWI.skip (Or.inl c_77)) H locs ls hW (lv_sub hl [3, 4, 0] rfl)
          · refine lv_aload_n F.x F.cd dX9_from_80 rfl (lv_at hl 1 rfl) ?_
            refine lv_iload_n F.x F.cd dX9_from_81 rfl (lv_at hl 3 rfl) ?_
            refine s_callV (As := [.int (nI t)]) (rest := []) (C := RX5) (T := TX5) (N := 7) (n := 1) F hW (k_X5_touches g l σk (L (100 + k)) (pA v k) (pB v k) (pM v k) (pV v k) (pR v k) (pD v k) (pL v k) t ((hWn.2.2.2.2.2.1 k (by omega)).1) (by omega) (by omega) (by omega)) ((hWn.2.2.2.2.2.1 k (by omega)).1) rfl q675 q676 q677 q96 q678 rfl (by decide +kernel) rfl ⟨⟨Nat.le_of_ble_eq_true rfl, Nat.le_of_ble_eq_true rfl⟩, ⟨(Nat.le_of_ble_eq_true rfl), (Nat.le_of_ble_eq_true rfl)⟩⟩ (Nat.le_of_ble_eq_true rfl) hl.1 rfl dX9_from_82 cX_no (fun r11 σ11 H locs hp11 hW => ?_)
            obtain ⟨rfl, hs11⟩ := hp11
            rw [hs11] at hW
            refine W.eq (g2 := F0 m_ 85 ls (.int (bI (tch (pA v k) (pB v k) t)) :: [])) rfl ?_
            refine b_if_eq (b := (tch (pA v k) (pB v k) t)) (tgt := 110) F dX9_from_85 (by decide) (fun c_85 => ?_) (fun c_85 => ?_)
            · refine lv_iinc (k := 4) (v := (nI (k + 1))) (lv' := [(2, .int (nI (k + 1))), (4, .int (bI (use v s c k))), (3, .ref (L (100 + k))), (0, .ref h), (1, .int (nI t))]) F.x F.cd dX9_from_110 hl rfl (inc_nI k 1) (by decide) rfl (fun ls hl => ?_)
              refine lv_goto (tgt := 9) F.x F.cd dX9_from_113 (by decide) ?_
              exact ih9 (k + 1) σk Bk (by omega) (hσk) (hWI.skip (Or.inr (Or.inl c_85))) H locs ls hW (lv_sub hl [3, 4, 0] rfl)
            · refine lv_aload_n F.x F.cd dX9_from_88 rfl (lv_at hl 2 rfl) ?_
              refine s_get F hW (ci := 12) (C := RX9) (T := TX9) (N := 4) (v := .ref ar) (e0n) rfl in_X9 0 (by decide) q301 (fun _ h9 => h9) rfl dX9_from_89 ?_
              refine lv_aload_n F.x F.cd dX9_from_92 rfl (lv_at hl 1 rfl) ?_
              refine lv_iload_n F.x F.cd dX9_from_93 rfl (lv_at hl 3 rfl) ?_
              refine s_callV (As := [.int (nI t)]) (rest := [.ref ar]) (C := RX5) (T := TX5) (N := 7) (n := 1) F hW (k_X5_otherEnd g l σk (L (100 + k)) (pA v k) (pB v k) (pM v k) (pV v k) (pR v k) (pD v k) (pL v k) t ((hWn.2.2.2.2.2.1 k (by omega)).1) (by omega) (by omega)) ((hWn.2.2.2.2.2.1 k (by omega)).1) rfl q679 q680 q681 q96 q682 rfl (by decide +kernel) rfl ⟨⟨Nat.le_of_ble_eq_true rfl, Nat.le_of_ble_eq_true rfl⟩, ⟨(Nat.le_of_ble_eq_true rfl), (Nat.le_of_ble_eq_true rfl)⟩⟩ (Nat.le_of_ble_eq_true rfl) hl.1 rfl dX9_from_94 cX_no (fun r12 σ12 H locs hp12 hW => ?_)
              obtain ⟨rfl, hs12⟩ := hp12
              rw [hs12] at hW
              refine W.eq (g2 := F0 m_ 97 ls (.int (nI (oth (pA v k) (pB v k) t)) :: .ref ar :: [])) rfl ?_
              refine n_zald (i := oth (pA v k) (pB v k) t) (n := 8) (f := (fun x9 => bI (Bk x9))) (x := (bI (Bk (oth (pA v k) (pB v k) t)))) F hW (ean) (Nat.lt_of_lt_of_le (oth_lt hpq.1 hpq.2.1) hI.1) (by omega) (rfl) dX9_from_97 ?_
              refine b_if_ne (b := (Bk (oth (pA v k) (pB v k) t))) (tgt := 110) F dX9_from_98 (by decide) (fun c_98 => ?_) (fun c_98 => ?_)
              · refine lv_iinc (k := 4) (v := (nI (k + 1))) (lv' := [(2, .int (nI (k + 1))), (4, .int (bI (use v s c k))), (3, .ref (L (100 + k))), (0, .ref h), (1, .int (nI t))]) F.x F.cd dX9_from_110 hl rfl (inc_nI k 1) (by decide) rfl (fun ls hl => ?_)
                refine lv_goto (tgt := 9) F.x F.cd dX9_from_113 (by decide) ?_
                exact ih9 (k + 1) σk Bk (by omega) (hσk) (hWI.skip (Or.inr (Or.inr c_98))) H locs ls hW (lv_sub hl [3, 4, 0] rfl)
              · refine lv_aload_n F.x F.cd dX9_from_101 rfl (lv_at hl 2 rfl) ?_
                refine lv_aload_n F.x F.cd dX9_from_102 rfl (lv_at hl 1 rfl) ?_
                refine lv_iload_n F.x F.cd dX9_from_103 rfl (lv_at hl 3 rfl) ?_
                refine s_callV (As := [.int (nI t)]) (rest := [.ref h]) (C := RX5) (T := TX5) (N := 7) (n := 1) F hW (k_X5_otherEnd g l σk (L (100 + k)) (pA v k) (pB v k) (pM v k) (pV v k) (pR v k) (pD v k) (pL v k) t ((hWn.2.2.2.2.2.1 k (by omega)).1) (by omega) (by omega)) ((hWn.2.2.2.2.2.1 k (by omega)).1) rfl q679 q680 q681 q96 q682 rfl (by decide +kernel) rfl ⟨⟨Nat.le_of_ble_eq_true rfl, Nat.le_of_ble_eq_true rfl⟩, ⟨(Nat.le_of_ble_eq_true rfl), (Nat.le_of_ble_eq_true rfl)⟩⟩ (Nat.le_of_ble_eq_true rfl) hl.1 rfl dX9_from_104 cX_no (fun r13 σ13 H locs hp13 hW => ?_)
                obtain ⟨rfl, hs13⟩ := hp13
                rw [hs13] at hW
                refine W.eq (g2 := F0 m_ 107 ls (.int (nI (oth (pA v k) (pB v k) t)) :: .ref h :: [])) rfl ?_
                refine s_callV (As := [.int (nI (oth (pA v k) (pB v k) t))]) (rest := []) (C := RX9) (T := TX9) (N := 4) (n := 1) F hW (k_X9_from_2 g l σk L v h ar s (oth (pA v k) (pB v k) t) c Bk hWn hI e0n ean ba hs (oth_lt hpq.1 hpq.2.1) c_98 (by have := unvN_lt hWI.2.1 hR hWI.1 8 (by omega); unfold unv at hun ⊢; omega)) (e0n) rfl q683 q319 q320 q107 q321 rfl (by decide +kernel) rfl ⟨⟨Nat.le_of_ble_eq_true rfl, Nat.le_of_ble_eq_true rfl⟩, ⟨(Nat.le_of_ble_eq_true rfl), (Nat.le_of_ble_eq_true rfl)⟩⟩ (Nat.le_of_ble_eq_true rfl) hl.1 rfl dX9_from_107 cX_no (fun r14 σ14 H locs hp14 hW => ?_)
                obtain ⟨rfl, B9, hσ9, hP9⟩ := hp14
                refine W.eq (g2 := F0 m_ 110 ls ([])) rfl ?_
                refine lv_iinc (k := 4) (v := (nI (k + 1))) (lv' := [(2, .int (nI (k + 1))), (4, .int (bI (use v s c k))), (3, .ref (L (100 + k))), (0, .ref h), (1, .int (nI t))]) F.x F.cd dX9_from_110 hl rfl (inc_nI k 1) (by decide) rfl (fun ls hl => ?_)
                refine lv_goto (tgt := 9) F.x F.cd dX9_from_113 (by decide) ?_
                exact ih9 (k + 1) σ14 B9 (by omega) (by rw [hσ9, hσk, sset_sset]) (hWI.step hI (by omega) c_77 c_85 hP9) H locs ls hW (lv_sub hl [3, 4, 0] rfl)
        · refine lv_aload_n F.x F.cd dX9_from_50 rfl (lv_at hl 0 rfl) ?_
          refine s_callV (As := []) (rest := []) (C := RX5) (T := TX5) (N := 7) (n := 0) F hW (k_X5_isOpen g l σk (L (100 + k)) (pA v k) (pB v k) (pM v k) (pV v k) (pR v k) (pD v k) (pL v k) ((hWn.2.2.2.2.2.1 k (by omega)).1) (by omega) (by omega)) ((hWn.2.2.2.2.2.1 k (by omega)).1) rfl q671 q672 q673 q96 q674 rfl (by decide +kernel) rfl ⟨⟨Nat.le_of_ble_eq_true rfl, Nat.le_of_ble_eq_true rfl⟩, ⟨(Nat.le_of_ble_eq_true rfl), (Nat.le_of_ble_eq_true rfl)⟩⟩ (Nat.le_of_ble_eq_true rfl) hl.1 rfl dX9_from_51 cX_no (fun r15 σ15 H locs hp15 hW => ?_)
          obtain ⟨rfl, hs15⟩ := hp15
          rw [hs15] at hW
          refine W.eq (g2 := F0 m_ 54 ls (.int (bI (opn (pV v k) (pD v k))) :: [])) rfl ?_
          refine b_if_eq (b := (opn (pV v k) (pD v k))) (tgt := 72) F dX9_from_54 (by decide) (fun c_54 => ?_) (fun c_54 => ?_)
          · refine lv_iconst (v := (nI 0)) F.x F.cd dX9_from_72 (by decide) ?_
            refine W.eq (g2 := F0 m_ 73 ls (.int (bI (use v s c k)) :: [])) (by rw [show use v s c k = false by first | (simp [use, c_47, c_54]; done) | (simp [use, c_47, c_54]; omega)]; rfl) ?_
            refine lv_istore (lv' := [(4, .int (bI (use v s c k))), (3, .ref (L (100 + k))), (0, .ref h), (1, .int (nI t)), (2, .int (nI k))]) F.x F.cd dX9_from_73 hl (by decide) rfl (fun ls hl => ?_)
            refine lv_iload F.x F.cd dX9_from_75 (lv_at hl 0 rfl) ?_
            refine b_if_eq (b := (use v s c k)) (tgt := 110) F dX9_from_77 (by decide) (fun c_77 => ?_) (fun c_77 => ?_)
            · refine lv_iinc (k := 4) (v := (nI (k + 1))) (lv' := [(2, .int (nI (k + 1))), (4, .int (bI (use v s c k))), (3, .ref (L (100 + k))), (0, .ref h), (1, .int (nI t))]) F.x F.cd dX9_from_110 hl rfl (inc_nI k 1) (by decide) rfl (fun ls hl => ?_)
              refine lv_goto (tgt := 9) F.x F.cd dX9_from_113 (by decide) ?_
              exact ih9 (k + 1) σk Bk (by omega) (hσk) (hWI.skip (Or.inl c_77)) H locs ls hW (lv_sub hl [3, 4, 0] rfl)
            · refine lv_aload_n F.x F.cd dX9_from_80 rfl (lv_at hl 1 rfl) ?_
              refine lv_iload_n F.x F.cd dX9_from_81 rfl (lv_at hl 3 rfl) ?_
              refine s_callV (As := [.int (nI t)]) (rest := []) (C := RX5) (T := TX5) (N := 7) (n := 1) F hW (k_X5_touches g l σk (L (100 + k)) (pA v k) (pB v k) (pM v k) (pV v k) (pR v k) (pD v k) (pL v k) t ((hWn.2.2.2.2.2.1 k (by omega)).1) (by omega) (by omega) (by omega)) ((hWn.2.2.2.2.2.1 k (by omega)).1) rfl q675 q676 q677 q96 q678 rfl (by decide +kernel) rfl ⟨⟨Nat.le_of_ble_eq_true rfl, Nat.le_of_ble_eq_true rfl⟩, ⟨(Nat.le_of_ble_eq_true rfl), (Nat.le_of_ble_eq_true rfl)⟩⟩ (Nat.le_of_ble_eq_true rfl) hl.1 rfl dX9_from_82 cX_no (fun r16 σ16 H locs hp16 hW => ?_)
              obtain ⟨rfl, hs16⟩ := hp16
              rw [hs16] at hW
              refine W.eq (g2 := F0 m_ 85 ls (.int (bI (tch (pA v k) (pB v k) t)) :: [])) rfl ?_
              refine b_if_eq (b := (tch (pA v k) (pB v k) t)) (tgt := 110) F dX9_from_85 (by decide) (fun c_85 => ?_) (fun c_85 => ?_)
              · refine lv_iinc (k := 4) (v := (nI (k + 1))) (lv' := [(2, .int (nI (k + 1))), (4, .int (bI (use v s c k))), (3, .ref (L (100 + k))), (0, .ref h), (1, .int (nI t))]) F.x F.cd dX9_from_110 hl rfl (inc_nI k 1) (by decide) rfl (fun ls hl => ?_)
                refine lv_goto (tgt := 9) F.x F.cd dX9_from_113 (by decide) ?_
                exact ih9 (k + 1) σk Bk (by omega) (hσk) (hWI.skip (Or.inr (Or.inl c_85))) H locs ls hW (lv_sub hl [3, 4, 0] rfl)
              · refine lv_aload_n F.x F.cd dX9_from_88 rfl (lv_at hl 2 rfl) ?_
                refine s_get F hW (ci := 12) (C := RX9) (T := TX9) (N := 4) (v := .ref ar) (e0n) rfl in_X9 0 (by decide) q301 (fun _ h9 => h9) rfl dX9_from_89 ?_
                refine lv_aload_n F.x F.cd dX9_from_92 rfl (lv_at hl 1 rfl) ?_
                refine lv_iload_n F.x F.cd dX9_from_93 rfl (lv_at hl 3 rfl) ?_
                refine s_callV (As := [.int (nI t)]) (rest := [.ref ar]) (C := RX5) (T := TX5) (N := 7) (n := 1) F hW (k_X5_otherEnd g l σk (L (100 + k)) (pA v k) (pB v k) (pM v k) (pV v k) (pR v k) (pD v k) (pL v k) t ((hWn.2.2.2.2.2.1 k (by omega)).1) (by omega) (by omega)) ((hWn.2.2.2.2.2.1 k (by omega)).1) rfl q679 q680 q681 q96 q682 rfl (by decide +kernel) rfl ⟨⟨Nat.le_of_ble_eq_true rfl, Nat.le_of_ble_eq_true rfl⟩, ⟨(Nat.le_of_ble_eq_true rfl), (Nat.le_of_ble_eq_true rfl)⟩⟩ (Nat.le_of_ble_eq_true rfl) hl.1 rfl dX9_from_94 cX_no (fun r17 σ17 H locs hp17 hW => ?_)
                obtain ⟨rfl, hs17⟩ := hp17
                rw [hs17] at hW
                refine W.eq (g2 := F0 m_ 97 ls (.int (nI (oth (pA v k) (pB v k) t)) :: .ref ar :: [])) rfl ?_
                refine n_zald (i := oth (pA v k) (pB v k) t) (n := 8) (f := (fun x9 => bI (Bk x9))) (x := (bI (Bk (oth (pA v k) (pB v k) t)))) F hW (ean) (Nat.lt_of_lt_of_le (oth_lt hpq.1 hpq.2.1) hI.1) (by omega) (rfl) dX9_from_97 ?_
                refine b_if_ne (b := (Bk (oth (pA v k) (pB v k) t))) (tgt := 110) F dX9_from_98 (by decide) (fun c_98 => ?_) (fun c_98 => ?_)
                · refine lv_iinc (k := 4) (v := (nI (k + 1))) (lv' := [(2, .int (nI (k + 1))), (4, .int (bI (use v s c k))), (3, .ref (L (100 + k))), (0, .ref h), (1, .int (nI t))]) F.x F.cd dX9_from_110 hl rfl (inc_nI k 1) (by decide) rfl (fun ls hl => ?_)
                  refine lv_goto (tgt := 9) F.x F.cd dX9_from_113 (by decide) ?_
                  exact ih9 (k + 1) σk Bk (by omega) (hσk) (hWI.skip (Or.inr (Or.inr c_98))) H locs ls hW (lv_sub hl [3, 4, 0] rfl)
                · refine lv_aload_n F.x F.cd dX9_from_101 rfl (lv_at hl 2 rfl) ?_
                  refine lv_aload_n F.x F.cd dX9_from_102 rfl (lv_at hl 1 rfl) ?_
                  refine lv_iload_n F.x F.cd dX9_from_103 rfl (lv_at hl 3 rfl) ?_
                  refine s_callV (As := [.int (nI t)]) (rest := [.ref h]) (C := RX5) (T := TX5) (N := 7) (n := 1) F hW (k_X5_otherEnd g l σk (L (100 + k)) (pA v k) (pB v k) (pM v k) (pV v k) (pR v k) (pD v k) (pL v k) t ((hWn.2.2.2.2.2.1 k (by omega)).1) (by omega) (by omega)) ((hWn.2.2.2.2.2.1 k (by omega)).1) rfl q679 q680 q681 q96 q682 rfl (by decide +kernel) rfl ⟨⟨Nat.le_of_ble_eq_true rfl, Nat.le_of_ble_eq_true rfl⟩, ⟨(Nat.le_of_ble_eq_true rfl), (Nat.le_of_ble_eq_true rfl)⟩⟩ (Nat.le_of_ble_eq_true rfl) hl.1 rfl dX9_from_104 cX_no (fun r18 σ18 H locs hp18 hW => ?_)
                  obtain ⟨rfl, hs18⟩ := hp18
                  rw [hs18] at hW
                  refine W.eq (g2 := F0 m_ 107 ls (.int (nI (oth (pA v k) (pB v k) t)) :: .ref h :: [])) rfl ?_
                  refine s_callV (As := [.int (nI (oth (pA v k) (pB v k) t))]) (rest := []) (C := RX9) (T := TX9) (N := 4) (n := 1) F hW (k_X9_from_2 g l σk L v h ar s (oth (pA v k) (pB v k) t) c Bk hWn hI e0n ean ba hs (oth_lt hpq.1 hpq.2.1) c_98 (by have := unvN_lt hWI.2.1 hR hWI.1 8 (by omega); unfold unv at hun ⊢; omega)) (e0n) rfl q683 q319 q320 q107 q321 rfl (by decide +kernel) rfl ⟨⟨Nat.le_of_ble_eq_true rfl, Nat.le_of_ble_eq_true rfl⟩, ⟨(Nat.le_of_ble_eq_true rfl), (Nat.le_of_ble_eq_true rfl)⟩⟩ (Nat.le_of_ble_eq_true rfl) hl.1 rfl dX9_from_107 cX_no (fun r19 σ19 H locs hp19 hW => ?_)
                  obtain ⟨rfl, B9, hσ9, hP9⟩ := hp19
                  refine W.eq (g2 := F0 m_ 110 ls ([])) rfl ?_
                  refine lv_iinc (k := 4) (v := (nI (k + 1))) (lv' := [(2, .int (nI (k + 1))), (4, .int (bI (use v s c k))), (3, .ref (L (100 + k))), (0, .ref h), (1, .int (nI t))]) F.x F.cd dX9_from_110 hl rfl (inc_nI k 1) (by decide) rfl (fun ls hl => ?_)
                  refine lv_goto (tgt := 9) F.x F.cd dX9_from_113 (by decide) ?_
                  exact ih9 (k + 1) σ19 B9 (by omega) (by rw [hσ9, hσk, sset_sset]) (hWI.step hI (by omega) c_77 c_85 hP9) H locs ls hW (lv_sub hl [3, 4, 0] rfl)
          · refine lv_aload_n F.x F.cd dX9_from_57 rfl (lv_at hl 0 rfl) ?_
            refine s_getN F hW (ci := 9) (C := RX5) (T := TX5) (N := 7) (v := .int (nI (pV v k))) ((hWn.2.2.2.2.2.1 k (by omega)).1) rfl in_X5 3 (by decide) q1078 (fun _ h9 => h9) rfl dX9_from_58 ?_
            refine lv_aload_n F.x F.cd dX9_from_61 rfl (lv_at hl 1 rfl) ?_
            refine s_get F hW (ci := 12) (C := RX9) (T := TX9) (N := 4) (v := .int (nI s)) (e0n) rfl in_X9 1 (by decide) q303 (fun _ h9 => h9) rfl dX9_from_62 ?_
            refine n_icmp_lt (a := pV v k) (b := s) (tgt := 72) F (by omega) (by omega) dX9_from_65 (by decide) (fun c_65 => ?_) (fun c_65 => ?_)
            · refine lv_iconst (v := (nI 0)) F.x F.cd dX9_from_72 (by decide) ?_
              refine W.eq (g2 := F0 m_ 73 ls (.int (bI (use v s c k)) :: [])) (by rw [show use v s c k = false by first | (simp [use, c_47, c_54, c_65]; done) | (simp [use, c_47, c_54, c_65]; omega)]; rfl) ?_
              refine lv_istore (lv' := [(4, .int (bI (use v s c k))), (3, .ref (L (100 + k))), (0, .ref h), (1, .int (nI t)), (2, .int (nI k))]) F.x F.cd dX9_from_73 hl (by decide) rfl (fun ls hl => ?_)
              refine lv_iload F.x F.cd dX9_from_75 (lv_at hl 0 rfl) ?_
              refine b_if_eq (b := (use v s c k)) (tgt := 110) F dX9_from_77 (by decide) (fun c_77 => ?_) (fun c_77 => ?_)
              · refine lv_iinc (k := 4) (v := (nI (k + 1))) (lv' := [(2, .int (nI (k + 1))), (4, .int (bI (use v s c k))), (3, .ref (L (100 + k))), (0, .ref h), (1, .int (nI t))]) F.x F.cd dX9_from_110 hl rfl (inc_nI k 1) (by decide) rfl (fun ls hl => ?_)
                refine lv_goto (tgt := 9) F.x F.cd dX9_from_113 (by decide) ?_
                exact ih9 (k + 1) σk Bk (by omega) (hσk) (hWI.skip (Or.inl c_77)) H locs ls hW (lv_sub hl [3, 4, 0] rfl)
              · refine lv_aload_n F.x F.cd dX9_from_80 rfl (lv_at hl 1 rfl) ?_
                refine lv_iload_n F.x F.cd dX9_from_81 rfl (lv_at hl 3 rfl) ?_
                refine s_callV (As := [.int (nI t)]) (rest := []) (C := RX5) (T := TX5) (N := 7) (n := 1) F hW (k_X5_touches g l σk (L (100 + k)) (pA v k) (pB v k) (pM v k) (pV v k) (pR v k) (pD v k) (pL v k) t ((hWn.2.2.2.2.2.1 k (by omega)).1) (by omega) (by omega) (by omega)) ((hWn.2.2.2.2.2.1 k (by omega)).1) rfl q675 q676 q677 q96 q678 rfl (by decide +kernel) rfl ⟨⟨Nat.le_of_ble_eq_true rfl, Nat.le_of_ble_eq_true rfl⟩, ⟨(Nat.le_of_ble_eq_true rfl), (Nat.le_of_ble_eq_true rfl)⟩⟩ (Nat.le_of_ble_eq_true rfl) hl.1 rfl dX9_from_82 cX_no (fun r20 σ20 H locs hp20 hW => ?_)
                obtain ⟨rfl, hs20⟩ := hp20
                rw [hs20] at hW
                refine W.eq (g2 := F0 m_ 85 ls (.int (bI (tch (pA v k) (pB v k) t)) :: [])) rfl ?_
                refine b_if_eq (b := (tch (pA v k) (pB v k) t)) (tgt := 110) F dX9_from_85 (by decide) (fun c_85 => ?_) (fun c_85 => ?_)
                · refine lv_iinc (k := 4) (v := (nI (k + 1))) (lv' := [(2, .int (nI (k + 1))), (4, .int (bI (use v s c k))), (3, .ref (L (100 + k))), (0, .ref h), (1, .int (nI t))]) F.x F.cd dX9_from_110 hl rfl (inc_nI k 1) (by decide) rfl (fun ls hl => ?_)
                  refine lv_goto (tgt := 9) F.x F.cd dX9_from_113 (by decide) ?_
                  exact ih9 (k + 1) σk Bk (by omega) (hσk) (hWI.skip (Or.inr (Or.inl c_85))) H locs ls hW (lv_sub hl [3, 4, 0] rfl)
                · refine lv_aload_n F.x F.cd dX9_from_88 rfl (lv_at hl 2 rfl) ?_
                  refine s_get F hW (ci := 12) (C := RX9) (T := TX9) (N := 4) (v := .ref ar) (e0n) rfl in_X9 0 (by decide) q301 (fun _ h9 => h9) rfl dX9_from_89 ?_
                  refine lv_aload_n F.x F.cd dX9_from_92 rfl (lv_at hl 1 rfl) ?_
                  refine lv_iload_n F.x F.cd dX9_from_93 rfl (lv_at hl 3 rfl) ?_
                  refine s_callV (As := [.int (nI t)]) (rest := [.ref ar]) (C := RX5) (T := TX5) (N := 7) (n := 1) F hW (k_X5_otherEnd g l σk (L (100 + k)) (pA v k) (pB v k) (pM v k) (pV v k) (pR v k) (pD v k) (pL v k) t ((hWn.2.2.2.2.2.1 k (by omega)).1) (by omega) (by omega)) ((hWn.2.2.2.2.2.1 k (by omega)).1) rfl q679 q680 q681 q96 q682 rfl (by decide +kernel) rfl ⟨⟨Nat.le_of_ble_eq_true rfl, Nat.le_of_ble_eq_true rfl⟩, ⟨(Nat.le_of_ble_eq_true rfl), (Nat.le_of_ble_eq_true rfl)⟩⟩ (Nat.le_of_ble_eq_true rfl) hl.1 rfl dX9_from_94 cX_no (fun r21 σ21 H locs hp21 hW => ?_)
                  obtain ⟨rfl, hs21⟩ := hp21
                  rw [hs21] at hW
                  refine W.eq (g2 := F0 m_ 97 ls (.int (nI (oth (pA v k) (pB v k) t)) :: .ref ar :: [])) rfl ?_
                  refine n_zald (i := oth (pA v k) (pB v k) t) (n := 8) (f := (fun x9 => bI (Bk x9))) (x := (bI (Bk (oth (pA v k) (pB v k) t)))) F hW (ean) (Nat.lt_of_lt_of_le (oth_lt hpq.1 hpq.2.1) hI.1) (by omega) (rfl) dX9_from_97 ?_
                  refine b_if_ne (b := (Bk (oth (pA v k) (pB v k) t))) (tgt := 110) F dX9_from_98 (by decide) (fun c_98 => ?_) (fun c_98 => ?_)
                  · refine lv_iinc (k := 4) (v := (nI (k + 1))) (lv' := [(2, .int (nI (k + 1))), (4, .int (bI (use v s c k))), (3, .ref (L (100 + k))), (0, .ref h), (1, .int (nI t))]) F.x F.cd dX9_from_110 hl rfl (inc_nI k 1) (by decide) rfl (fun ls hl => ?_)
                    refine lv_goto (tgt := 9) F.x F.cd dX9_from_113 (by decide) ?_
                    exact ih9 (k + 1) σk Bk (by omega) (hσk) (hWI.skip (Or.inr (Or.inr c_98))) H locs ls hW (lv_sub hl [3, 4, 0] rfl)
                  · refine lv_aload_n F.x F.cd dX9_from_101 rfl (lv_at hl 2 rfl) ?_
                    refine lv_aload_n F.x F.cd dX9_from_102 rfl (lv_at hl 1 rfl) ?_
                    refine lv_iload_n F.x F.cd dX9_from_103 rfl (lv_at hl 3 rfl) ?_
                    refine s_callV (As := [.int (nI t)]) (rest := [.ref h]) (C := RX5) (T := TX5) (N := 7) (n := 1) F hW (k_X5_otherEnd g l σk (L (100 + k)) (pA v k) (pB v k) (pM v k) (pV v k) (pR v k) (pD v k) (pL v k) t ((hWn.2.2.2.2.2.1 k (by omega)).1) (by omega) (by omega)) ((hWn.2.2.2.2.2.1 k (by omega)).1) rfl q679 q680 q681 q96 q682 rfl (by decide +kernel) rfl ⟨⟨Nat.le_of_ble_eq_true rfl, Nat.le_of_ble_eq_true rfl⟩, ⟨(Nat.le_of_ble_eq_true rfl), (Nat.le_of_ble_eq_true rfl)⟩⟩ (Nat.le_of_ble_eq_true rfl) hl.1 rfl dX9_from_104 cX_no (fun r22 σ22 H locs hp22 hW => ?_)
                    obtain ⟨rfl, hs22⟩ := hp22
                    rw [hs22] at hW
                    refine W.eq (g2 := F0 m_ 107 ls (.int (nI (oth (pA v k) (pB v k) t)) :: .ref h :: [])) rfl ?_
                    refine s_callV (As := [.int (nI (oth (pA v k) (pB v k) t))]) (rest := []) (C := RX9) (T := TX9) (N := 4) (n := 1) F hW (k_X9_from_2 g l σk L v h ar s (oth (pA v k) (pB v k) t) c Bk hWn hI e0n ean ba hs (oth_lt hpq.1 hpq.2.1) c_98 (by have := unvN_lt hWI.2.1 hR hWI.1 8 (by omega); unfold unv at hun ⊢; omega)) (e0n) rfl q683 q319 q320 q107 q321 rfl (by decide +kernel) rfl ⟨⟨Nat.le_of_ble_eq_true rfl, Nat.le_of_ble_eq_true rfl⟩, ⟨(Nat.le_of_ble_eq_true rfl), (Nat.le_of_ble_eq_true rfl)⟩⟩ (Nat.le_of_ble_eq_true rfl) hl.1 rfl dX9_from_107 cX_no (fun r23 σ23 H locs hp23 hW => ?_)
                    obtain ⟨rfl, B9, hσ9, hP9⟩ := hp23
                    refine W.eq (g2 := F0 m_ 110 ls ([])) rfl ?_
                    refine lv_iinc (k := 4) (v := (nI (k + 1))) (lv' := [(2, .int (nI (k + 1))), (4, .int (bI (use v s c k))), (3, .ref (L (100 + k))), (0, .ref h), (1, .int (nI t))]) F.x F.cd dX9_from_110 hl rfl (inc_nI k 1) (by decide) rfl (fun ls hl => ?_)
                    refine lv_goto (tgt := 9) F.x F.cd dX9_from_113 (by decide) ?_
                    exact ih9 (k + 1) σ23 B9 (by omega) (by rw [hσ9, hσk, sset_sset]) (hWI.step hI (by omega) c_77 c_85 hP9) H locs ls hW (lv_sub hl [3, 4, 0] rfl)
            · refine lv_iconst (v := (nI 1)) F.x F.cd dX9_from_68 (by decide) ?_
              refine lv_goto (tgt := 73) F.x F.cd dX9_from_69 (by decide) ?_
              refine W.eq (g2 := F0 m_ 73 ls (.int (bI (use v s c k)) :: [])) (by rw [show use v s c k = true by first | (simp [use, c_47, c_54, c_65]; done) | (simp [use, c_47, c_54, c_65]; omega)]; rfl) ?_
              refine lv_istore (lv' := [(4, .int (bI (use v s c k))), (3, .ref (L (100 + k))), (0, .ref h), (1, .int (nI t)), (2, .int (nI k))]) F.x F.cd dX9_from_73 hl (by decide) rfl (fun ls hl => ?_)
              refine lv_iload F.x F.cd dX9_from_75 (lv_at hl 0 rfl) ?_
              refine b_if_eq (b := (use v s c k)) (tgt := 110) F dX9_from_77 (by decide) (fun c_77 => ?_) (fun c_77 => ?_)
              · refine lv_iinc (k := 4) (v := (nI (k + 1))) (lv' := [(2, .int (nI (k + 1))), (4, .int (bI (use v s c k))), (3, .ref (L (100 + k))), (0, .ref h), (1, .int (nI t))]) F.x F.cd dX9_from_110 hl rfl (inc_nI k 1) (by decide) rfl (fun ls hl => ?_)
                refine lv_goto (tgt := 9) F.x F.cd dX9_from_113 (by decide) ?_
                exact ih9 (k + 1) σk Bk (by omega) (hσk) (hWI.skip (Or.inl c_77)) H locs ls hW (lv_sub hl [3, 4, 0] rfl)
              · refine lv_aload_n F.x F.cd dX9_from_80 rfl (lv_at hl 1 rfl) ?_
                refine lv_iload_n F.x F.cd dX9_from_81 rfl (lv_at hl 3 rfl) ?_
                refine s_callV (As := [.int (nI t)]) (rest := []) (C := RX5) (T := TX5) (N := 7) (n := 1) F hW (k_X5_touches g l σk (L (100 + k)) (pA v k) (pB v k) (pM v k) (pV v k) (pR v k) (pD v k) (pL v k) t ((hWn.2.2.2.2.2.1 k (by omega)).1) (by omega) (by omega) (by omega)) ((hWn.2.2.2.2.2.1 k (by omega)).1) rfl q675 q676 q677 q96 q678 rfl (by decide +kernel) rfl ⟨⟨Nat.le_of_ble_eq_true rfl, Nat.le_of_ble_eq_true rfl⟩, ⟨(Nat.le_of_ble_eq_true rfl), (Nat.le_of_ble_eq_true rfl)⟩⟩ (Nat.le_of_ble_eq_true rfl) hl.1 rfl dX9_from_82 cX_no (fun r24 σ24 H locs hp24 hW => ?_)
                obtain ⟨rfl, hs24⟩ := hp24
                rw [hs24] at hW
                refine W.eq (g2 := F0 m_ 85 ls (.int (bI (tch (pA v k) (pB v k) t)) :: [])) rfl ?_
                refine b_if_eq (b := (tch (pA v k) (pB v k) t)) (tgt := 110) F dX9_from_85 (by decide) (fun c_85 => ?_) (fun c_85 => ?_)
                · refine lv_iinc (k := 4) (v := (nI (k + 1))) (lv' := [(2, .int (nI (k + 1))), (4, .int (bI (use v s c k))), (3, .ref (L (100 + k))), (0, .ref h), (1, .int (nI t))]) F.x F.cd dX9_from_110 hl rfl (inc_nI k 1) (by decide) rfl (fun ls hl => ?_)
                  refine lv_goto (tgt := 9) F.x F.cd dX9_from_113 (by decide) ?_
                  exact ih9 (k + 1) σk Bk (by omega) (hσk) (hWI.skip (Or.inr (Or.inl c_85))) H locs ls hW (lv_sub hl [3, 4, 0] rfl)
                · refine lv_aload_n F.x F.cd dX9_from_88 rfl (lv_at hl 2 rfl) ?_
                  refine s_get F hW (ci := 12) (C := RX9) (T := TX9) (N := 4) (v := .ref ar) (e0n) rfl in_X9 0 (by decide) q301 (fun _ h9 => h9) rfl dX9_from_89 ?_
                  refine lv_aload_n F.x F.cd dX9_from_92 rfl (lv_at hl 1 rfl) ?_
                  refine lv_iload_n F.x F.cd dX9_from_93 rfl (lv_at hl 3 rfl) ?_
                  refine s_callV (As := [.int (nI t)]) (rest := [.ref ar]) (C := RX5) (T := TX5) (N := 7) (n := 1) F hW (k_X5_otherEnd g l σk (L (100 + k)) (pA v k) (pB v k) (pM v k) (pV v k) (pR v k) (pD v k) (pL v k) t ((hWn.2.2.2.2.2.1 k (by omega)).1) (by omega) (by omega)) ((hWn.2.2.2.2.2.1 k (by omega)).1) rfl q679 q680 q681 q96 q682 rfl (by decide +kernel) rfl ⟨⟨Nat.le_of_ble_eq_true rfl, Nat.le_of_ble_eq_true rfl⟩, ⟨(Nat.le_of_ble_eq_true rfl), (Nat.le_of_ble_eq_true rfl)⟩⟩ (Nat.le_of_ble_eq_true rfl) hl.1 rfl dX9_from_94 cX_no (fun r25 σ25 H locs hp25 hW => ?_)
                  obtain ⟨rfl, hs25⟩ := hp25
                  rw [hs25] at hW
                  refine W.eq (g2 := F0 m_ 97 ls (.int (nI (oth (pA v k) (pB v k) t)) :: .ref ar :: [])) rfl ?_
                  refine n_zald (i := oth (pA v k) (pB v k) t) (n := 8) (f := (fun x9 => bI (Bk x9))) (x := (bI (Bk (oth (pA v k) (pB v k) t)))) F hW (ean) (Nat.lt_of_lt_of_le (oth_lt hpq.1 hpq.2.1) hI.1) (by omega) (rfl) dX9_from_97 ?_
                  refine b_if_ne (b := (Bk (oth (pA v k) (pB v k) t))) (tgt := 110) F dX9_from_98 (by decide) (fun c_98 => ?_) (fun c_98 => ?_)
                  · refine lv_iinc (k := 4) (v := (nI (k + 1))) (lv' := [(2, .int (nI (k + 1))), (4, .int (bI (use v s c k))), (3, .ref (L (100 + k))), (0, .ref h), (1, .int (nI t))]) F.x F.cd dX9_from_110 hl rfl (inc_nI k 1) (by decide) rfl (fun ls hl => ?_)
                    refine lv_goto (tgt := 9) F.x F.cd dX9_from_113 (by decide) ?_
                    exact ih9 (k + 1) σk Bk (by omega) (hσk) (hWI.skip (Or.inr (Or.inr c_98))) H locs ls hW (lv_sub hl [3, 4, 0] rfl)
                  · refine lv_aload_n F.x F.cd dX9_from_101 rfl (lv_at hl 2 rfl) ?_
                    refine lv_aload_n F.x F.cd dX9_from_102 rfl (lv_at hl 1 rfl) ?_
                    refine lv_iload_n F.x F.cd dX9_from_103 rfl (lv_at hl 3 rfl) ?_
                    refine s_callV (As := [.int (nI t)]) (rest := [.ref h]) (C := RX5) (T := TX5) (N := 7) (n := 1) F hW (k_X5_otherEnd g l σk (L (100 + k)) (pA v k) (pB v k) (pM v k) (pV v k) (pR v k) (pD v k) (pL v k) t ((hWn.2.2.2.2.2.1 k (by omega)).1) (by omega) (by omega)) ((hWn.2.2.2.2.2.1 k (by omega)).1) rfl q679 q680 q681 q96 q682 rfl (by decide +kernel) rfl ⟨⟨Nat.le_of_ble_eq_true rfl, Nat.le_of_ble_eq_true rfl⟩, ⟨(Nat.le_of_ble_eq_true rfl), (Nat.le_of_ble_eq_true rfl)⟩⟩ (Nat.le_of_ble_eq_true rfl) hl.1 rfl dX9_from_104 cX_no (fun r26 σ26 H locs hp26 hW => ?_)
                    obtain ⟨rfl, hs26⟩ := hp26
                    rw [hs26] at hW
                    refine W.eq (g2 := F0 m_ 107 ls (.int (nI (oth (pA v k) (pB v k) t)) :: .ref h :: [])) rfl ?_
                    refine s_callV (As := [.int (nI (oth (pA v k) (pB v k) t))]) (rest := []) (C := RX9) (T := TX9) (N := 4) (n := 1) F hW (k_X9_from_2 g l σk L v h ar s (oth (pA v k) (pB v k) t) c Bk hWn hI e0n ean ba hs (oth_lt hpq.1 hpq.2.1) c_98 (by have := unvN_lt hWI.2.1 hR hWI.1 8 (by omega); unfold unv at hun ⊢; omega)) (e0n) rfl q683 q319 q320 q107 q321 rfl (by decide +kernel) rfl ⟨⟨Nat.le_of_ble_eq_true rfl, Nat.le_of_ble_eq_true rfl⟩, ⟨(Nat.le_of_ble_eq_true rfl), (Nat.le_of_ble_eq_true rfl)⟩⟩ (Nat.le_of_ble_eq_true rfl) hl.1 rfl dX9_from_107 cX_no (fun r27 σ27 H locs hp27 hW => ?_)
                    obtain ⟨rfl, B9, hσ9, hP9⟩ := hp27
                    refine W.eq (g2 := F0 m_ 110 ls ([])) rfl ?_
                    refine lv_iinc (k := 4) (v := (nI (k + 1))) (lv' := [(2, .int (nI (k + 1))), (4, .int (bI (use v s c k))), (3, .ref (L (100 + k))), (0, .ref h), (1, .int (nI t))]) F.x F.cd dX9_from_110 hl rfl (inc_nI k 1) (by decide) rfl (fun ls hl => ?_)
                    refine lv_goto (tgt := 9) F.x F.cd dX9_from_113 (by decide) ?_
                    exact ih9 (k + 1) σ27 B9 (by omega) (by rw [hσ9, hσk, sset_sset]) (hWI.step hI (by omega) c_77 c_85 hP9) H locs ls hW (lv_sub hl [3, 4, 0] rfl)
  exact loop9 (v 1) 0 _ _ (by omega) (hσ0) (WI.start) H locs ls hW (lv_sub hl [1, 2, 0] rfl)
set_option maxHeartbeats 4000000 in
theorem k_X9_from_4 (g : Gh) (l : Launch) (σ : Sto) (L v : Nat → Nat) (h ar s t : Nat) (c : Int32) (B : Nat → Bool) (hWk : IsWorks g σ L v) (hI : Inv v) (e0 : σ h = some (.inr (12, [.ref ar, .int (nI s), .int c, .ref (L 0)]))) (ea : σ ar = some (eI g 2 8 (fun j => bI (B j)))) (ba : gB g ≤ ar) (hs : s < 2 ^ 30) (ht : t < v 0) (hR : B t = false) (hun : unv B ≤ 4) : Ct g l yX9_from cX9_from 5 none ({ frames := 6, cells := 0, slots := 0, locals := 136 } : Room) [.ref h, .int (nI t)] σ (fun r σ' => r = none ∧ ∃ R' : Nat → Bool, σ' = sset σ ar (eI g 2 8 (fun j => bI (R' j))) ∧ WP v s c B t R') (nox) := by
  refine Ct.body (by decide) (Nat.le_of_ble_eq_true rfl) ?_
  intro p_ e_ s_ m_ args_ below_ meth_ c_ ls H locs Q F hW hl hQ
  have hl : lv_has ls 5 [(0, .ref h), (1, .int (nI t))] := hl
  have hT := hWk.2.2.1
  have hP := hWk.2.2.2.1
  obtain ⟨mcT, nT, fT, eT, bT, -⟩ := id hT
  obtain ⟨mcP, nP, fP, eP, bP, -⟩ := id hP
  have hv0 := hI.1
  have hv1 := hI.2.1
  refine lv_aload_n F.x F.cd dX9_from_0 rfl (lv_at hl 0 rfl) ?_
  refine s_get F hW (ci := 12) (C := RX9) (T := TX9) (N := 4) (v := .ref ar) (e0) rfl in_X9 0 (by decide) q301 (fun _ h9 => h9) rfl dX9_from_1 ?_
  refine lv_iload_n F.x F.cd dX9_from_4 rfl (lv_at hl 1 rfl) ?_
  refine lv_iconst (v := (nI 1)) F.x F.cd dX9_from_5 (by decide) ?_
  refine n_zast (i := t) F hW (ea) (ba) (by omega) (by omega) (show narrow .boolean (.int (nI 1)) = .int (nI 1) by decide) dX9_from_6 (fun H locs hW => ?_)
  obtain ⟨σ1, hσ1⟩ : ∃ z, z = sset σ ar (eI g 2 8 (upd (fun x9 => bI (B x9)) t (nI 1))) := ⟨_, rfl⟩
  have hW : Hl g σ1 H locs := by rw [hσ1]; exact hW
  have w1 : σ1 ar = some (eI g 2 8 (upd (fun x9 => bI (B x9)) t (nI 1))) := by rw [hσ1]; exact sset_eq
  have f2 : σ1 (L 0) = some (.inr (1, [.ref (L 1), .ref (L 2), .int (nI (v 2)), .int (nI (v 3)), .int (nI (v 4)), .int (nI (v 5))])) := by rw [hσ1, sset_ne (sto_ne ea hWk.1 (by simp))]; exact hWk.1
  have f3 : σ1 (L 1) = some (.inr (2, [.int mcT, .ref (L 3), .int (nI (v 0))])) := by rw [hσ1, sset_ne (sto_ne ea eT (by simp))]; exact eT
  have j4 := IsList.setI (e := eI g 2 8 (upd (fun x9 => bI (B x9)) t (nI 1))) (hT) (ea)
  rw [← hσ1] at j4
  have f5 : σ1 (L 2) = some (.inr (2, [.int mcP, .ref (L 4), .int (nI (v 1))])) := by rw [hσ1, sset_ne (sto_ne ea eP (by simp))]; exact eP
  have j6 := IsList.setI (e := eI g 2 8 (upd (fun x9 => bI (B x9)) t (nI 1))) (hP) (ea)
  rw [← hσ1] at j6
  have f7 : σ1 h = some (.inr (12, [.ref ar, .int (nI s), .int c, .ref (L 0)])) := by rw [hσ1, sset_ne (sto_ne ea e0 (by simp))]; exact e0
  have hσ0 : σ1 = sset σ ar (eI g 2 8 (fun j => bI (va_up B t true j))) := by rw [hσ1, updB]
  refine lv_iconst (v := (nI 0)) F.x F.cd dX9_from_7 (by decide) ?_
  refine lv_istore_n (lv' := [(2, .int (nI 0)), (0, .ref h), (1, .int (nI t))]) F.x F.cd dX9_from_8 rfl hl (by decide) rfl (fun ls hl => ?_)
  have loop9 : ∀ (n : Nat) (k : Nat) (σk : Sto) (Bk : Nat → Bool), k + n = v 1 → (σk = sset σ ar (eI g 2 8 (fun j => bI (Bk j)))) → WI v s c B t Bk k → ∀ (H : Heap) (locs : List Loc) (ls : Array Slot), Hl g σk H locs → lv_has ls 5 [(0, .ref h), (1, .int (nI t)), (2, .int (nI k))] → W p_ l e_ ({ frames := 6, cells := 0, slots := 0, locals := 136 } : Room) s_ m_ args_ below_ meth_ c_ H locs 0 0 Q (F0 m_ 9 ls ([])) := by
    intro n
    induction n with
    | zero =>
      intro k σk Bk hkn hσk hWI H locs ls hW hl
      have hWn : IsWorks g σk L v := by rw [hσk]; exact hWk.setI ea
      have e0n : σk h = some (.inr (12, [.ref ar, .int (nI s), .int c, .ref (L 0)])) := by rw [hσk, sset_ne (sto_ne ea e0 (by simp))]; exact e0
      have ean : σk ar = some (eI g 2 8 (fun j => bI (Bk j))) := by rw [hσk, sset_eq]
      have hT_k := hWn.2.2.1
      have hP_k := hWn.2.2.2.1
      obtain ⟨mcT_k, nT_k, fT_k, eT_k, bT_k, -⟩ := id hT_k
      obtain ⟨mcP_k, nP_k, fP_k, eP_k, bP_k, -⟩ := id hP_k
      have hv0_k := hI.1
      have hv1_k := hI.2.1
      refine lv_iload_n F.x F.cd dX9_from_9 rfl (lv_at hl 2 rfl) ?_
      refine lv_aload_n F.x F.cd dX9_from_10 rfl (lv_at hl 0 rfl) ?_
      refine s_get F hW (ci := 12) (C := RX9) (T := TX9) (N := 4) (v := .ref (L 0)) (e0n) rfl in_X9 3 (by decide) q305 (fun _ h9 => h9) rfl dX9_from_11 ?_
      refine s_getN F hW (ci := 1) (C := RX2) (T := TX2) (N := 6) (v := .ref (L 2)) (hWn.1) rfl in_X2 1 (by decide) q163 (fun _ h9 => h9) rfl dX9_from_14 ?_
      refine s_callF (As := []) (rest := [.int (nI k)]) (C := RJ2) (T := TJ2) (N := 3) (n := 0) F hW (k_J2_size g l σk _ _ _ _ hP_k) (eP_k) rfl (List.mem_of_getElem? (i := 0) rfl) q323 q272 q274 q72 q276 (by decide +kernel) rfl ⟨⟨Nat.le_of_ble_eq_true rfl, Nat.le_of_ble_eq_true rfl⟩, ⟨(Nat.le_of_ble_eq_true rfl), (Nat.le_of_ble_eq_true rfl)⟩⟩ (Nat.le_of_ble_eq_true rfl) hl.1 rfl dX9_from_17 cX_no (fun r8 σ8 H locs hp8 hW => ?_)
      obtain ⟨rfl, hs8⟩ := hp8
      rw [hs8] at hW
      refine W.eq (g2 := F0 m_ 22 ls (.int (nI (v 1)) :: .int (nI k) :: [])) rfl ?_
      refine n_icmp_ge (a := k) (b := v 1) (tgt := 116) F (by omega) (by omega) dX9_from_22 (by decide) (fun c_22 => ?_) (fun c_22 => ?_)
      · subst hQ
        exact s_retv F hW (⟨rfl, Bk, hσk, WI.done hI (by rw [← show k = v 1 by omega]; exact hWI)⟩) ⟨(Nat.le_of_ble_eq_true rfl), (Nat.le_of_ble_eq_true rfl)⟩ dX9_from_116
      · exact absurd c_22 (by omega)
    | succ n ih9 =>
      intro k σk Bk hkn hσk hWI H locs ls hW hl
      have hWn : IsWorks g σk L v := by rw [hσk]; exact hWk.setI ea
      have e0n : σk h = some (.inr (12, [.ref ar, .int (nI s), .int c, .ref (L 0)])) := by rw [hσk, sset_ne (sto_ne ea e0 (by simp))]; exact e0
      have ean : σk ar = some (eI g 2 8 (fun j => bI (Bk j))) := by rw [hσk, sset_eq]
      have hT_k := hWn.2.2.1
      have hP_k := hWn.2.2.2.1
      obtain ⟨mcT_k, nT_k, fT_k, eT_k, bT_k, -⟩ := id hT_k
      obtain ⟨mcP_k, nP_k, fP_k, eP_k, bP_k, -⟩ := id hP_k
      have hv0_k := hI.1
      have hv1_k := hI.2.1
      refine lv_iload_n F.x F.cd dX9_from_9 rfl (lv_at hl 2 rfl) ?_
      refine lv_aload_n F.x F.cd dX9_from_10 rfl (lv_at hl 0 rfl) ?_
      refine s_get F hW (ci := 12) (C := RX9) (T := TX9) (N := 4) (v := .ref (L 0)) (e0n) rfl in_X9 3 (by decide) q305 (fun _ h9 => h9) rfl dX9_from_11 ?_
      refine s_getN F hW (ci := 1) (C := RX2) (T := TX2) (N := 6) (v := .ref (L 2)) (hWn.1) rfl in_X2 1 (by decide) q163 (fun _ h9 => h9) rfl dX9_from_14 ?_
      refine s_callF (As := []) (rest := [.int (nI k)]) (C := RJ2) (T := TJ2) (N := 3) (n := 0) F hW (k_J2_size g l σk _ _ _ _ hP_k) (eP_k) rfl (List.mem_of_getElem? (i := 0) rfl) q323 q272 q274 q72 q276 (by decide +kernel) rfl ⟨⟨Nat.le_of_ble_eq_true rfl, Nat.le_of_ble_eq_true rfl⟩, ⟨(Nat.le_of_ble_eq_true rfl), (Nat.le_of_ble_eq_true rfl)⟩⟩ (Nat.le_of_ble_eq_true rfl) hl.1 rfl dX9_from_17 cX_no (fun r9 σ9 H locs hp9 hW => ?_)
      obtain ⟨rfl, hs9⟩ := hp9
      rw [hs9] at hW
      refine W.eq (g2 := F0 m_ 22 ls (.int (nI (v 1)) :: .int (nI k) :: [])) rfl ?_
      refine n_icmp_ge (a := k) (b := v 1) (tgt := 116) F (by omega) (by omega) dX9_from_22 (by decide) (fun c_22 => ?_) (fun c_22 => ?_)
      · exact absurd c_22 (by omega)
      · have hpq := hI.pp (q := k) (by omega)
        refine lv_aload_n F.x F.cd dX9_from_25 rfl (lv_at hl 0 rfl) ?_
        refine s_get F hW (ci := 12) (C := RX9) (T := TX9) (N := 4) (v := .ref (L 0)) (e0n) rfl in_X9 3 (by decide) q305 (fun _ h9 => h9) rfl dX9_from_26 ?_
        refine s_getN F hW (ci := 1) (C := RX2) (T := TX2) (N := 6) (v := .ref (L 2)) (hWn.1) rfl in_X2 1 (by decide) q163 (fun _ h9 => h9) rfl dX9_from_29 ?_
        refine lv_iload_n F.x F.cd dX9_from_32 rfl (lv_at hl 2 rfl) ?_
        refine s_callF (As := [.int (nI k)]) (rest := []) (C := RJ2) (T := TJ2) (N := 3) (n := 1) F hW (k_J2_get g l σk _ _ _ _ k hP_k (by omega)) (eP_k) rfl (List.mem_of_getElem? (i := 1) rfl) q325 q328 q330 q72 q332 (by decide +kernel) rfl ⟨⟨Nat.le_of_ble_eq_true rfl, Nat.le_of_ble_eq_true rfl⟩, ⟨(Nat.le_of_ble_eq_true rfl), (Nat.le_of_ble_eq_true rfl)⟩⟩ (Nat.le_of_ble_eq_true rfl) hl.1 rfl dX9_from_33 cX_no (fun r10 σ10 H locs hp10 hW => ?_)
        obtain ⟨rfl, hs10⟩ := hp10
        rw [hs10] at hW
        refine W.eq (g2 := F0 m_ 38 ls (.ref (L (100 + k)) :: [])) rfl ?_
        refine s_cast_ F hW (C := RX5) (T := TX5) (N := 7) ((hWn.2.2.2.2.2.1 k (by omega)).1) rfl q670 dX9_from_38 ?_
        refine lv_astore_n (lv' := [(3, .ref (L (100 + k))), (0, .ref h), (1, .int (nI t)), (2, .int (nI k))]) F.x F.cd dX9_from_41 rfl hl (by decide) rfl (fun ls hl => ?_)
        refine lv_iload_n F.x F.cd dX9_from_42 rfl (lv_at hl 3 rfl) ?_
        refine lv_aload_n F.x F.cd dX9_from_43 rfl (lv_at hl 1 rfl) ?_
        refine s_get F hW (ci := 12) (C := RX9) (T := TX9) (N := 4) (v := .int c) (e0n) rfl in_X9 2 (by decide) q304 (fun _ h9 => h9) rfl dX9_from_44 ?_
        refine lv_icmp_eq (x := (nI k)) (y := c) (tgt := 72) F.x F.cd dX9_from_47 (by decide) (fun c_47 => ?_) (fun c_47 => ?_)
        · refine lv_iconst (v := (nI 0)) F.x F.cd dX9_from_72 (by decide) ?_
          refine W.eq (g2 := F0 m_ 73 ls (.int (bI (use v s c k)) :: [])) (by rw [show use v s c k = false by first | (simp [use, c_47]; done) | (simp [use, c_47]; omega)]; rfl) ?_
          refine lv_istore (lv' := [(4, .int (bI (use v s c k))), (3, .ref (L (100 + k))), (0, .ref h), (1, .int (nI t)), (2, .int (nI k))]) F.x F.cd dX9_from_73 hl (by decide) rfl (fun ls hl => ?_)
          refine lv_iload F.x F.cd dX9_from_75 (lv_at hl 0 rfl) ?_
          refine b_if_eq (b := (use v s c k)) (tgt := 110) F dX9_from_77 (by decide) (fun c_77 => ?_) (fun c_77 => ?_)
          · refine lv_iinc (k := 4) (v := (nI (k + 1))) (lv' := [(2, .int (nI (k + 1))), (4, .int (bI (use v s c k))), (3, .ref (L (100 + k))), (0, .ref h), (1, .int (nI t))]) F.x F.cd dX9_from_110 hl rfl (inc_nI k 1) (by decide) rfl (fun ls hl => ?_)
            refine lv_goto (tgt := 9) F.x F.cd dX9_from_113 (by decide) ?_
            exact ih9 (k + 1) σk Bk (by omega) (hσk) (hWI.skip (Or.inl c_77)) H locs ls hW (lv_sub hl [3, 4, 0] rfl)
          · refine lv_aload_n F.x F.cd dX9_from_80 rfl (lv_at hl 1 rfl) ?_
            refine lv_iload_n F.x F.cd dX9_from_81 rfl (lv_at hl 3 rfl) ?_
            refine s_callV (As := [.int (nI t)]) (rest := []) (C := RX5) (T := TX5) (N := 7) (n := 1) F hW (k_X5_touches g l σk (L (100 + k)) (pA v k) (pB v k) (pM v k) (pV v k) (pR v k) (pD v k) (pL v k) t ((hWn.2.2.2.2.2.1 k (by omega)).1) (by omega) (by omega) (by omega)) ((hWn.2.2.2.2.2.1 k (by omega)).1) rfl q675 q676 q677 q96 q678 rfl (by decide +kernel) rfl ⟨⟨Nat.le_of_ble_eq_true rfl, Nat.le_of_ble_eq_true rfl⟩, ⟨(Nat.le_of_ble_eq_true rfl), (Nat.le_of_ble_eq_true rfl)⟩⟩ (Nat.le_of_ble_eq_true rfl) hl.1 rfl dX9_from_82 cX_no (fun r11 σ11 H locs hp11 hW => ?_)
            obtain ⟨rfl, hs11⟩ := hp11
            rw [hs11] at hW
            refine W.eq (g2 := F0 m_ 85 ls (.int (bI (tch (pA v k) (pB v k) t)) :: [])) rfl ?_
            refine b_if_eq (b := (tch (pA v k) (pB v k) t)) (tgt := 110) F dX9_from_85 (by decide) (fun c_85 => ?_) (fun c_85 => ?_)
            · refine lv_iinc (k := 4) (v := (nI (k + 1))) (lv' := [(2, .int (nI (k + 1))), (4, .int (bI (use v s c k))), (3, .ref (L (100 + k))), (0, .ref h), (1, .int (nI t))]) F.x F.cd dX9_from_110 hl rfl (inc_nI k 1) (by decide) rfl (fun ls hl => ?_)
              refine lv_goto (tgt := 9) F.x F.cd dX9_from_113 (by decide) ?_
              exact ih9 (k + 1) σk Bk (by omega) (hσk) (hWI.skip (Or.inr (Or.inl c_85))) H locs ls hW (lv_sub hl [3, 4, 0] rfl)
            · refine lv_aload_n F.x F.cd dX9_from_88 rfl (lv_at hl 2 rfl) ?_
              refine s_get F hW (ci := 12) (C := RX9) (T := TX9) (N := 4) (v := .ref ar) (e0n) rfl in_X9 0 (by decide) q301 (fun _ h9 => h9) rfl dX9_from_89 ?_
              refine lv_aload_n F.x F.cd dX9_from_92 rfl (lv_at hl 1 rfl) ?_
              refine lv_iload_n F.x F.cd dX9_from_93 rfl (lv_at hl 3 rfl) ?_
              refine s_callV (As := [.int (nI t)]) (rest := [.ref ar]) (C := RX5) (T := TX5) (N := 7) (n := 1) F hW (k_X5_otherEnd g l σk (L (100 + k)) (pA v k) (pB v k) (pM v k) (pV v k) (pR v k) (pD v k) (pL v k) t ((hWn.2.2.2.2.2.1 k (by omega)).1) (by omega) (by omega)) ((hWn.2.2.2.2.2.1 k (by omega)).1) rfl q679 q680 q681 q96 q682 rfl (by decide +kernel) rfl ⟨⟨Nat.le_of_ble_eq_true rfl, Nat.le_of_ble_eq_true rfl⟩, ⟨(Nat.le_of_ble_eq_true rfl), (Nat.le_of_ble_eq_true rfl)⟩⟩ (Nat.le_of_ble_eq_true rfl) hl.1 rfl dX9_from_94 cX_no (fun r12 σ12 H locs hp12 hW => ?_)
              obtain ⟨rfl, hs12⟩ := hp12
              rw [hs12] at hW
              refine W.eq (g2 := F0 m_ 97 ls (.int (nI (oth (pA v k) (pB v k) t)) :: .ref ar :: [])) rfl ?_
              refine n_zald (i := oth (pA v k) (pB v k) t) (n := 8) (f := (fun x9 => bI (Bk x9))) (x := (bI (Bk (oth (pA v k) (pB v k) t)))) F hW (ean) (Nat.lt_of_lt_of_le (oth_lt hpq.1 hpq.2.1) hI.1) (by omega) (rfl) dX9_from_97 ?_
              refine b_if_ne (b := (Bk (oth (pA v k) (pB v k) t))) (tgt := 110) F dX9_from_98 (by decide) (fun c_98 => ?_) (fun c_98 => ?_)
              · refine lv_iinc (k := 4) (v := (nI (k + 1))) (lv' := [(2, .int (nI (k + 1))), (4, .int (bI (use v s c k))), (3, .ref (L (100 + k))), (0, .ref h), (1, .int (nI t))]) F.x F.cd dX9_from_110 hl rfl (inc_nI k 1) (by decide) rfl (fun ls hl => ?_)
                refine lv_goto (tgt := 9) F.x F.cd dX9_from_113 (by decide) ?_
                exact ih9 (k + 1) σk Bk (by omega) (hσk) (hWI.skip (Or.inr (Or.inr c_98))) H locs ls hW (lv_sub hl [3, 4, 0] rfl)
              · refine lv_aload_n F.x F.cd dX9_from_101 rfl (lv_at hl 2 rfl) ?_
                refine lv_aload_n F.x F.cd dX9_from_102 rfl (lv_at hl 1 rfl) ?_
                refine lv_iload_n F.x F.cd dX9_from_103 rfl (lv_at hl 3 rfl) ?_
                refine s_callV (As := [.int (nI t)]) (rest := [.ref h]) (C := RX5) (T := TX5) (N := 7) (n := 1) F hW (k_X5_otherEnd g l σk (L (100 + k)) (pA v k) (pB v k) (pM v k) (pV v k) (pR v k) (pD v k) (pL v k) t ((hWn.2.2.2.2.2.1 k (by omega)).1) (by omega) (by omega)) ((hWn.2.2.2.2.2.1 k (by omega)).1) rfl q679 q680 q681 q96 q682 rfl (by decide +kernel) rfl ⟨⟨Nat.le_of_ble_eq_true rfl, Nat.le_of_ble_eq_true rfl⟩, ⟨(Nat.le_of_ble_eq_true rfl), (Nat.le_of_ble_eq_true rfl)⟩⟩ (Nat.le_of_ble_eq_true rfl) hl.1 rfl dX9_from_104 cX_no (fun r13 σ13 H locs hp13 hW => ?_)
                obtain ⟨rfl, hs13⟩ := hp13
                rw [hs13] at hW
                refine W.eq (g2 := F0 m_ 107 ls (.int (nI (oth (pA v k) (pB v k) t)) :: .ref h :: [])) rfl ?_
                refine s_callV (As := [.int (nI (oth (pA v k) (pB v k) t))]) (rest := []) (C := RX9) (T := TX9) (N := 4) (n := 1) F hW (k_X9_from_3 g l σk L v h ar s (oth (pA v k) (pB v k) t) c Bk hWn hI e0n ean ba hs (oth_lt hpq.1 hpq.2.1) c_98 (by have := unvN_lt hWI.2.1 hR hWI.1 8 (by omega); unfold unv at hun ⊢; omega)) (e0n) rfl q683 q319 q320 q107 q321 rfl (by decide +kernel) rfl ⟨⟨Nat.le_of_ble_eq_true rfl, Nat.le_of_ble_eq_true rfl⟩, ⟨(Nat.le_of_ble_eq_true rfl), (Nat.le_of_ble_eq_true rfl)⟩⟩ (Nat.le_of_ble_eq_true rfl) hl.1 rfl dX9_from_107 cX_no (fun r14 σ14 H locs hp14 hW => ?_)
                obtain ⟨rfl, B9, hσ9, hP9⟩ := hp14
                refine W.eq (g2 := F0 m_ 110 ls ([])) rfl ?_
                refine lv_iinc (k := 4) (v := (nI (k + 1))) (lv' := [(2, .int (nI (k + 1))), (4, .int (bI (use v s c k))), (3, .ref (L (100 + k))), (0, .ref h), (1, .int (nI t))]) F.x F.cd dX9_from_110 hl rfl (inc_nI k 1) (by decide) rfl (fun ls hl => ?_)
                refine lv_goto (tgt := 9) F.x F.cd dX9_from_113 (by decide) ?_
                exact ih9 (k + 1) σ14 B9 (by omega) (by rw [hσ9, hσk, sset_sset]) (hWI.step hI (by omega) c_77 c_85 hP9) H locs ls hW (lv_sub hl [3, 4, 0] rfl)
        · refine lv_aload_n F.x F.cd dX9_from_50 rfl (lv_at hl 0 rfl) ?_
          refine s_callV (As := []) (rest := []) (C := RX5) (T := TX5) (N := 7) (n := 0) F hW (k_X5_isOpen g l σk (L (100 + k)) (pA v k) (pB v k) (pM v k) (pV v k) (pR v k) (pD v k) (pL v k) ((hWn.2.2.2.2.2.1 k (by omega)).1) (by omega) (by omega)) ((hWn.2.2.2.2.2.1 k (by omega)).1) rfl q671 q672 q673 q96 q674 rfl (by decide +kernel) rfl ⟨⟨Nat.le_of_ble_eq_true rfl, Nat.le_of_ble_eq_true rfl⟩, ⟨(Nat.le_of_ble_eq_true rfl), (Nat.le_of_ble_eq_true rfl)⟩⟩ (Nat.le_of_ble_eq_true rfl) hl.1 rfl dX9_from_51 cX_no (fun r15 σ15 H locs hp15 hW => ?_)
          obtain ⟨rfl, hs15⟩ := hp15
          rw [hs15] at hW
          refine W.eq (g2 := F0 m_ 54 ls (.int (bI (opn (pV v k) (pD v k))) :: [])) rfl ?_
          refine b_if_eq (b := (opn (pV v k) (pD v k))) (tgt := 72) F dX9_from_54 (by decide) (fun c_54 => ?_) (fun c_54 => ?_)
          · refine lv_iconst (v := (nI 0)) F.x F.cd dX9_from_72 (by decide) ?_
            refine W.eq (g2 := F0 m_ 73 ls (.int (bI (use v s c k)) :: [])) (by rw [show use v s c k = false by first | (simp [use, c_47, c_54]; done) | (simp [use, c_47, c_54]; omega)]; rfl) ?_
            refine lv_istore (lv' := [(4, .int (bI (use v s c k))), (3, .ref (L (100 + k))), (0, .ref h), (1, .int (nI t)), (2, .int (nI k))]) F.x F.cd dX9_from_73 hl (by decide) rfl (fun ls hl => ?_)
            refine lv_iload F.x F.cd dX9_from_75 (lv_at hl 0 rfl) ?_
            refine b_if_eq (b := (use v s c k)) (tgt := 110) F dX9_from_77 (by decide) (fun c_77 => ?_) (fun c_77 => ?_)
            · refine lv_iinc (k := 4) (v := (nI (k + 1))) (lv' := [(2, .int (nI (k + 1))), (4, .int (bI (use v s c k))), (3, .ref (L (100 + k))), (0, .ref h), (1, .int (nI t))]) F.x F.cd dX9_from_110 hl rfl (inc_nI k 1) (by decide) rfl (fun ls hl => ?_)
              refine lv_goto (tgt := 9) F.x F.cd dX9_from_113 (by decide) ?_
              exact ih9 (k + 1) σk Bk (by omega) (hσk) (hWI.skip (Or.inl c_77)) H locs ls hW (lv_sub hl [3, 4, 0] rfl)
            · refine lv_aload_n F.x F.cd dX9_from_80 rfl (lv_at hl 1 rfl) ?_
              refine lv_iload_n F.x F.cd dX9_from_81 rfl (lv_at hl 3 rfl) ?_
              refine s_callV (As := [.int (nI t)]) (rest := []) (C := RX5) (T := TX5) (N := 7) (n := 1) F hW (k_X5_touches g l σk (L (100 + k)) (pA v k) (pB v k) (pM v k) (pV v k) (pR v k) (pD v k) (pL v k) t ((hWn.2.2.2.2.2.1 k (by omega)).1) (by omega) (by omega) (by omega)) ((hWn.2.2.2.2.2.1 k (by omega)).1) rfl q675 q676 q677 q96 q678 rfl (by decide +kernel) rfl ⟨⟨Nat.le_of_ble_eq_true rfl, Nat.le_of_ble_eq_true rfl⟩, ⟨(Nat.le_of_ble_eq_true rfl), (Nat.le_of_ble_eq_true rfl)⟩⟩ (Nat.le_of_ble_eq_true rfl) hl.1 rfl dX9_from_82 cX_no (fun r16 σ16 H locs hp16 hW => ?_)
              obtain ⟨rfl, hs16⟩ := hp16
              rw [hs16] at hW
              refine W.eq (g2 := F0 m_ 85 ls (.int (bI (tch (pA v k) (pB v k) t)) :: [])) rfl ?_
              refine b_if_eq (b := (tch (pA v k) (pB v k) t)) (tgt := 110) F dX9_from_85 (by decide) (fun c_85 => ?_) (fun c_85 => ?_)
              · refine lv_iinc (k := 4) (v := (nI (k + 1))) (lv' := [(2, .int (nI (k + 1))), (4, .int (bI (use v s c k))), (3, .ref (L (100 + k))), (0, .ref h), (1, .int (nI t))]) F.x F.cd dX9_from_110 hl rfl (inc_nI k 1) (by decide) rfl (fun ls hl => ?_)
                refine lv_goto (tgt := 9) F.x F.cd dX9_from_113 (by decide) ?_
                exact ih9 (k + 1) σk Bk (by omega) (hσk) (hWI.skip (Or.inr (Or.inl c_85))) H locs ls hW (lv_sub hl [3, 4, 0] rfl)
              · refine lv_aload_n F.x F.cd dX9_from_88 rfl (lv_at hl 2 rfl) ?_
                refine s_get F hW (ci := 12) (C := RX9) (T := TX9) (N := 4) (v := .ref ar) (e0n) rfl in_X9 0 (by decide) q301 (fun _ h9 => h9) rfl dX9_from_89 ?_
                refine lv_aload_n F.x F.cd dX9_from_92 rfl (lv_at hl 1 rfl) ?_
                refine lv_iload_n F.x F.cd dX9_from_93 rfl (lv_at hl 3 rfl) ?_
                refine s_callV (As := [.int (nI t)]) (rest := [.ref ar]) (C := RX5) (T := TX5) (N := 7) (n := 1) F hW (k_X5_otherEnd g l σk (L (100 + k)) (pA v k) (pB v k) (pM v k) (pV v k) (pR v k) (pD v k) (pL v k) t ((hWn.2.2.2.2.2.1 k (by omega)).1) (by omega) (by omega)) ((hWn.2.2.2.2.2.1 k (by omega)).1) rfl q679 q680 q681 q96 q682 rfl (by decide +kernel) rfl ⟨⟨Nat.le_of_ble_eq_true rfl, Nat.le_of_ble_eq_true rfl⟩, ⟨(Nat.le_of_ble_eq_true rfl), (Nat.le_of_ble_eq_true rfl)⟩⟩ (Nat.le_of_ble_eq_true rfl) hl.1 rfl dX9_from_94 cX_no (fun r17 σ17 H locs hp17 hW => ?_)
                obtain ⟨rfl, hs17⟩ := hp17
                rw [hs17] at hW
                refine W.eq (g2 := F0 m_ 97 ls (.int (nI (oth (pA v k) (pB v k) t)) :: .ref ar :: [])) rfl ?_
                refine n_zald (i := oth (pA v k) (pB v k) t) (n := 8) (f := (fun x9 => bI (Bk x9))) (x := (bI (Bk (oth (pA v k) (pB v k) t)))) F hW (ean) (Nat.lt_of_lt_of_le (oth_lt hpq.1 hpq.2.1) hI.1) (by omega) (rfl) dX9_from_97 ?_
                refine b_if_ne (b := (Bk (oth (pA v k) (pB v k) t))) (tgt := 110) F dX9_from_98 (by decide) (fun c_98 => ?_) (fun c_98 => ?_)
                · refine lv_iinc (k := 4) (v := (nI (k + 1))) (lv' := [(2, .int (nI (k + 1))), (4, .int (bI (use v s c k))), (3, .ref (L (100 + k))), (0, .ref h), (1, .int (nI t))]) F.x F.cd dX9_from_110 hl rfl (inc_nI k 1) (by decide) rfl (fun ls hl => ?_)
                  refine lv_goto (tgt := 9) F.x F.cd dX9_from_113 (by decide) ?_
                  exact ih9 (k + 1) σk Bk (by omega) (hσk) (hWI.skip (Or.inr (Or.inr c_98))) H locs ls hW (lv_sub hl [3, 4, 0] rfl)
                · refine lv_aload_n F.x F.cd dX9_from_101 rfl (lv_at hl 2 rfl) ?_
                  refine lv_aload_n F.x F.cd dX9_from_102 rfl (lv_at hl 1 rfl) ?_
                  refine lv_iload_n F.x F.cd dX9_from_103 rfl (lv_at hl 3 rfl) ?_
                  refine s_callV (As := [.int (nI t)]) (rest := [.ref h]) (C := RX5) (T := TX5) (N := 7) (n := 1) F hW (k_X5_otherEnd g l σk (L (100 + k)) (pA v k) (pB v k) (pM v k) (pV v k) (pR v k) (pD v k) (pL v k) t ((hWn.2.2.2.2.2.1 k (by omega)).1) (by omega) (by omega)) ((hWn.2.2.2.2.2.1 k (by omega)).1) rfl q679 q680 q681 q96 q682 rfl (by decide +kernel) rfl ⟨⟨Nat.le_of_ble_eq_true rfl, Nat.le_of_ble_eq_true rfl⟩, ⟨(Nat.le_of_ble_eq_true rfl), (Nat.le_of_ble_eq_true rfl)⟩⟩ (Nat.le_of_ble_eq_true rfl) hl.1 rfl dX9_from_104 cX_no (fun r18 σ18 H locs hp18 hW => ?_)
                  obtain ⟨rfl, hs18⟩ := hp18
                  rw [hs18] at hW
                  refine W.eq (g2 := F0 m_ 107 ls (.int (nI (oth (pA v k) (pB v k) t)) :: .ref h :: [])) rfl ?_
                  refine s_callV (As := [.int (nI (oth (pA v k) (pB v k) t))]) (rest := []) (C := RX9) (T := TX9) (N := 4) (n := 1) F hW (k_X9_from_3 g l σk L v h ar s (oth (pA v k) (pB v k) t) c Bk hWn hI e0n ean ba hs (oth_lt hpq.1 hpq.2.1) c_98 (by have := unvN_lt hWI.2.1 hR hWI.1 8 (by omega); unfold unv at hun ⊢; omega)) (e0n) rfl q683 q319 q320 q107 q321 rfl (by decide +kernel) rfl ⟨⟨Nat.le_of_ble_eq_true rfl, Nat.le_of_ble_eq_true rfl⟩, ⟨(Nat.le_of_ble_eq_true rfl), (Nat.le_of_ble_eq_true rfl)⟩⟩ (Nat.le_of_ble_eq_true rfl) hl.1 rfl dX9_from_107 cX_no (fun r19 σ19 H locs hp19 hW => ?_)
                  obtain ⟨rfl, B9, hσ9, hP9⟩ := hp19
                  refine W.eq (g2 := F0 m_ 110 ls ([])) rfl ?_
                  refine lv_iinc (k := 4) (v := (nI (k + 1))) (lv' := [(2, .int (nI (k + 1))), (4, .int (bI (use v s c k))), (3, .ref (L (100 + k))), (0, .ref h), (1, .int (nI t))]) F.x F.cd dX9_from_110 hl rfl (inc_nI k 1) (by decide) rfl (fun ls hl => ?_)
                  refine lv_goto (tgt := 9) F.x F.cd dX9_from_113 (by decide) ?_
                  exact ih9 (k + 1) σ19 B9 (by omega) (by rw [hσ9, hσk, sset_sset]) (hWI.step hI (by omega) c_77 c_85 hP9) H locs ls hW (lv_sub hl [3, 4, 0] rfl)
          · refine lv_aload_n F.x F.cd dX9_from_57 rfl (lv_at hl 0 rfl) ?_
            refine s_getN F hW (ci := 9) (C := RX5) (T := TX5) (N := 7) (v := .int (nI (pV v k))) ((hWn.2.2.2.2.2.1 k (by omega)).1) rfl in_X5 3 (by decide) q1078 (fun _ h9 => h9) rfl dX9_from_58 ?_
            refine lv_aload_n F.x F.cd dX9_from_61 rfl (lv_at hl 1 rfl) ?_
            refine s_get F hW (ci := 12) (C := RX9) (T := TX9) (N := 4) (v := .int (nI s)) (e0n) rfl in_X9 1 (by decide) q303 (fun _ h9 => h9) rfl dX9_from_62 ?_
            refine n_icmp_lt (a := pV v k) (b := s) (tgt := 72) F (by omega) (by omega) dX9_from_65 (by decide) (fun c_65 => ?_) (fun c_65 => ?_)
            · refine lv_iconst (v := (nI 0)) F.x F.cd dX9_from_72 (by decide) ?_
              refine W.eq (g2 := F0 m_ 73 ls (.int (bI (use v s c k)) :: [])) (by rw [show use v s c k = false by first | (simp [use, c_47, c_54, c_65]; done) | (simp [use, c_47, c_54, c_65]; omega)]; rfl) ?_
              refine lv_istore (lv' := [(4, .int (bI (use v s c k))), (3, .ref (L (100 + k))), (0, .ref h), (1, .int (nI t)), (2, .int (nI k))]) F.x F.cd dX9_from_73 hl (by decide) rfl (fun ls hl => ?_)
              refine lv_iload F.x F.cd dX9_from_75 (lv_at hl 0 rfl) ?_
              refine b_if_eq (b := (use v s c k)) (tgt := 110) F dX9_from_77 (by decide) (fun c_77 => ?_) (fun c_77 => ?_)
              · refine lv_iinc (k := 4) (v := (nI (k + 1))) (lv' := [(2, .int (nI (k + 1))), (4, .int (bI (use v s c k))), (3, .ref (L (100 + k))), (0, .ref h), (1, .int (nI t))]) F.x F.cd dX9_from_110 hl rfl (inc_nI k 1) (by decide) rfl (fun ls hl => ?_)
                refine lv_goto (tgt := 9) F.x F.cd dX9_from_113 (by decide) ?_
                exact ih9 (k + 1) σk Bk (by omega) (hσk) (hWI.skip (Or.inl c_77)) H locs ls hW (lv_sub hl [3, 4, 0] rfl)
              · refine lv_aload_n F.x F.cd dX9_from_80 rfl (lv_at hl 1 rfl) ?_
                refine lv_iload_n F.x F.cd dX9_from_81 rfl (lv_at hl 3 rfl) ?_
                refine s_callV (As := [.int (nI t)]) (rest := []) (C := RX5) (T := TX5) (N := 7) (n := 1) F hW (k_X5_touches g l σk (L (100 + k)) (pA v k) (pB v k) (pM v k) (pV v k) (pR v k) (pD v k) (pL v k) t ((hWn.2.2.2.2.2.1 k (by omega)).1) (by omega) (by omega) (by omega)) ((hWn.2.2.2.2.2.1 k (by omega)).1) rfl q675 q676 q677 q96 q678 rfl (by decide +kernel) rfl ⟨⟨Nat.le_of_ble_eq_true rfl, Nat.le_of_ble_eq_true rfl⟩, ⟨(Nat.le_of_ble_eq_true rfl), (Nat.le_of_ble_eq_true rfl)⟩⟩ (Nat.le_of_ble_eq_true rfl) hl.1 rfl dX9_from_82 cX_no (fun r20 σ20 H locs hp20 hW => ?_)
                obtain ⟨rfl, hs20⟩ := hp20
                rw [hs20] at hW
                refine W.eq (g2 := F0 m_ 85 ls (.int (bI (tch (pA v k) (pB v k) t)) :: [])) rfl ?_
                refine b_if_eq (b := (tch (pA v k) (pB v k) t)) (tgt := 110) F dX9_from_85 (by decide) (fun c_85 => ?_) (fun c_85 => ?_)
                · refine lv_iinc (k := 4) (v := (nI (k + 1))) (lv' := [(2, .int (nI (k + 1))), (4, .int (bI (use v s c k))), (3, .ref (L (100 + k))), (0, .ref h), (1, .int (nI t))]) F.x F.cd dX9_from_110 hl rfl (inc_nI k 1) (by decide) rfl (fun ls hl => ?_)
                  refine lv_goto (tgt := 9) F.x F.cd dX9_from_113 (by decide) ?_
                  exact ih9 (k + 1) σk Bk (by omega) (hσk) (hWI.skip (Or.inr (Or.inl c_85))) H locs ls hW (lv_sub hl [3, 4, 0] rfl)
                · refine lv_aload_n F.x F.cd dX9_from_88 rfl (lv_at hl 2 rfl) ?_
                  refine s_get F hW (ci := 12) (C := RX9) (T := TX9) (N := 4) (v := .ref ar) (e0n) rfl in_X9 0 (by decide) q301 (fun _ h9 => h9) rfl dX9_from_89 ?_
                  refine lv_aload_n F.x F.cd dX9_from_92 rfl (lv_at hl 1 rfl) ?_
                  refine lv_iload_n F.x F.cd dX9_from_93 rfl (lv_at hl 3 rfl) ?_
                  refine s_callV (As := [.int (nI t)]) (rest := [.ref ar]) (C := RX5) (T := TX5) (N := 7) (n := 1) F hW (k_X5_otherEnd g l σk (L (100 + k)) (pA v k) (pB v k) (pM v k) (pV v k) (pR v k) (pD v k) (pL v k) t ((hWn.2.2.2.2.2.1 k (by omega)).1) (by omega) (by omega)) ((hWn.2.2.2.2.2.1 k (by omega)).1) rfl q679 q680 q681 q96 q682 rfl (by decide +kernel) rfl ⟨⟨Nat.le_of_ble_eq_true rfl, Nat.le_of_ble_eq_true rfl⟩, ⟨(Nat.le_of_ble_eq_true rfl), (Nat.le_of_ble_eq_true rfl)⟩⟩ (Nat.le_of_ble_eq_true rfl) hl.1 rfl dX9_from_94 cX_no (fun r21 σ21 H locs hp21 hW => ?_)
                  obtain ⟨rfl, hs21⟩ := hp21
                  rw [hs21] at hW
                  refine W.eq (g2 := F0 m_ 97 ls (.int (nI (oth (pA v k) (pB v k) t)) :: .ref ar :: [])) rfl ?_
                  refine n_zald (i := oth (pA v k) (pB v k) t) (n := 8) (f := (fun x9 => bI (Bk x9))) (x := (bI (Bk (oth (pA v k) (pB v k) t)))) F hW (ean) (Nat.lt_of_lt_of_le (oth_lt hpq.1 hpq.2.1) hI.1) (by omega) (rfl) dX9_from_97 ?_
                  refine b_if_ne (b := (Bk (oth (pA v k) (pB v k) t))) (tgt := 110) F dX9_from_98 (by decide) (fun c_98 => ?_) (fun c_98 => ?_)
                  · refine lv_iinc (k := 4) (v := (nI (k + 1))) (lv' := [(2, .int (nI (k + 1))), (4, .int (bI (use v s c k))), (3, .ref (L (100 + k))), (0, .ref h), (1, .int (nI t))]) F.x F.cd dX9_from_110 hl rfl (inc_nI k 1) (by decide) rfl (fun ls hl => ?_)
                    refine lv_goto (tgt := 9) F.x F.cd dX9_from_113 (by decide) ?_
                    exact ih9 (k + 1) σk Bk (by omega) (hσk) (hWI.skip (Or.inr (Or.inr c_98))) H locs ls hW (lv_sub hl [3, 4, 0] rfl)
                  · refine lv_aload_n F.x F.cd dX9_from_101 rfl (lv_at hl 2 rfl) ?_
                    refine lv_aload_n F.x F.cd dX9_from_102 rfl (lv_at hl 1 rfl) ?_
                    refine lv_iload_n F.x F.cd dX9_from_103 rfl (lv_at hl 3 rfl) ?_
                    refine s_callV (As := [.int (nI t)]) (rest := [.ref h]) (C := RX5) (T := TX5) (N := 7) (n := 1) F hW (k_X5_otherEnd g l σk (L (100 + k)) (pA v k) (pB v k) (pM v k) (pV v k) (pR v k) (pD v k) (pL v k) t ((hWn.2.2.2.2.2.1 k (by omega)).1) (by omega) (by omega)) ((hWn.2.2.2.2.2.1 k (by omega)).1) rfl q679 q680 q681 q96 q682 rfl (by decide +kernel) rfl ⟨⟨Nat.le_of_ble_eq_true rfl, Nat.le_of_ble_eq_true rfl⟩, ⟨(Nat.le_of_ble_eq_true rfl), (Nat.le_of_ble_eq_true rfl)⟩⟩ (Nat.le_of_ble_eq_true rfl) hl.1 rfl dX9_from_104 cX_no (fun r22 σ22 H locs hp22 hW => ?_)
                    obtain ⟨rfl, hs22⟩ := hp22
                    rw [hs22] at hW
                    refine W.eq (g2 := F0 m_ 107 ls (.int (nI (oth (pA v k) (pB v k) t)) :: .ref h :: [])) rfl ?_
                    refine s_callV (As := [.int (nI (oth (pA v k) (pB v k) t))]) (rest := []) (C := RX9) (T := TX9) (N := 4) (n := 1) F hW (k_X9_from_3 g l σk L v h ar s (oth (pA v k) (pB v k) t) c Bk hWn hI e0n ean ba hs (oth_lt hpq.1 hpq.2.1) c_98 (by have := unvN_lt hWI.2.1 hR hWI.1 8 (by omega); unfold unv at hun ⊢; omega)) (e0n) rfl q683 q319 q320 q107 q321 rfl (by decide +kernel) rfl ⟨⟨Nat.le_of_ble_eq_true rfl, Nat.le_of_ble_eq_true rfl⟩, ⟨(Nat.le_of_ble_eq_true rfl), (Nat.le_of_ble_eq_true rfl)⟩⟩ (Nat.le_of_ble_eq_true rfl) hl.1 rfl dX9_from_107 cX_no (fun r23 σ23 H locs hp23 hW => ?_)
                    obtain ⟨rfl, B9, hσ9, hP9⟩ := hp23
                    refine W.eq (g2 := F0 m_ 110 ls ([])) rfl ?_
                    refine lv_iinc (k := 4) (v := (nI (k + 1))) (lv' := [(2, .int (nI (k + 1))), (4, .int (bI (use v s c k))), (3, .ref (L (100 + k))), (0, .ref h), (1, .int (nI t))]) F.x F.cd dX9_from_110 hl rfl (inc_nI k 1) (by decide) rfl (fun ls hl => ?_)
                    refine lv_goto (tgt := 9) F.x F.cd dX9_from_113 (by decide) ?_
                    exact ih9 (k + 1) σ23 B9 (by omega) (by rw [hσ9, hσk, sset_sset]) (hWI.step hI (by omega) c_77 c_85 hP9) H locs ls hW (lv_sub hl [3, 4, 0] rfl)
            · refine lv_iconst (v := (nI 1)) F.x F.cd dX9_from_68 (by decide) ?_
              refine lv_goto (tgt := 73) F.x F.cd dX9_from_69 (by decide) ?_
              refine W.eq (g2 := F0 m_ 73 ls (.int (bI (use v s c k)) :: [])) (by rw [show use v s c k = true by first | (simp [use, c_47, c_54, c_65]; done) | (simp [use, c_47, c_54, c_65]; omega)]; rfl) ?_
              refine lv_istore (lv' := [(4, .int (bI (use v s c k))), (3, .ref (L (100 + k))), (0, .ref h), (1, .int (nI t)), (2, .int (nI k))]) F.x F.cd dX9_from_73 hl (by decide) rfl (fun ls hl => ?_)
              refine lv_iload F.x F.cd dX9_from_75 (lv_at hl 0 rfl) ?_
              refine b_if_eq (b := (use v s c k)) (tgt := 110) F dX9_from_77 (by decide) (fun c_77 => ?_) (fun c_77 => ?_)
              · refine lv_iinc (k := 4) (v := (nI (k + 1))) (lv' := [(2, .int (nI (k + 1))), (4, .int (bI (use v s c k))), (3, .ref (L (100 + k))), (0, .ref h), (1, .int (nI t))]) F.x F.cd dX9_from_110 hl rfl (inc_nI k 1) (by decide) rfl (fun ls hl => ?_)
                refine lv_goto (tgt := 9) F.x F.cd dX9_from_113 (by decide) ?_
                exact ih9 (k + 1) σk Bk (by omega) (hσk) (hWI.skip (Or.inl c_77)) H locs ls hW (lv_sub hl [3, 4, 0] rfl)
              · refine lv_aload_n F.x F.cd dX9_from_80 rfl (lv_at hl 1 rfl) ?_
                refine lv_iload_n F.x F.cd dX9_from_81 rfl (lv_at hl 3 rfl) ?_
                refine s_callV (As := [.int (nI t)]) (rest := []) (C := RX5) (T := TX5) (N := 7) (n := 1) F hW (k_X5_touches g l σk (L (100 + k)) (pA v k) (pB v k) (pM v k) (pV v k) (pR v k) (pD v k) (pL v k) t ((hWn.2.2.2.2.2.1 k (by omega)).1) (by omega) (by omega) (by omega)) ((hWn.2.2.2.2.2.1 k (by omega)).1) rfl q675 q676 q677 q96 q678 rfl (by decide +kernel) rfl ⟨⟨Nat.le_of_ble_eq_true rfl, Nat.le_of_ble_eq_true rfl⟩, ⟨(Nat.le_of_ble_eq_true rfl), (Nat.le_of_ble_eq_true rfl)⟩⟩ (Nat.le_of_ble_eq_true rfl) hl.1 rfl dX9_from_82 cX_no (fun r24 σ24 H locs hp24 hW => ?_)
                obtain ⟨rfl, hs24⟩ := hp24
                rw [hs24] at hW
                refine W.eq (g2 := F0 m_ 85 ls (.int (bI (tch (pA v k) (pB v k) t)) :: [])) rfl ?_
                refine b_if_eq (b := (tch (pA v k) (pB v k) t)) (tgt := 110) F dX9_from_85 (by decide) (fun c_85 => ?_) (fun c_85 => ?_)
                · refine lv_iinc (k := 4) (v := (nI (k + 1))) (lv' := [(2, .int (nI (k + 1))), (4, .int (bI (use v s c k))), (3, .ref (L (100 + k))), (0, .ref h), (1, .int (nI t))]) F.x F.cd dX9_from_110 hl rfl (inc_nI k 1) (by decide) rfl (fun ls hl => ?_)
                  refine lv_goto (tgt := 9) F.x F.cd dX9_from_113 (by decide) ?_
                  exact ih9 (k + 1) σk Bk (by omega) (hσk) (hWI.skip (Or.inr (Or.inl c_85))) H locs ls hW (lv_sub hl [3, 4, 0] rfl)
                · refine lv_aload_n F.x F.cd dX9_from_88 rfl (lv_at hl 2 rfl) ?_
                  refine s_get F hW (ci := 12) (C := RX9) (T := TX9) (N := 4) (v := .ref ar) (e0n) rfl in_X9 0 (by decide) q301 (fun _ h9 => h9) rfl dX9_from_89 ?_
                  refine lv_aload_n F.x F.cd dX9_from_92 rfl (lv_at hl 1 rfl) ?_
                  refine lv_iload_n F.x F.cd dX9_from_93 rfl (lv_at hl 3 rfl) ?_
                  refine s_callV (As := [.int (nI t)]) (rest := [.ref ar]) (C := RX5) (T := TX5) (N := 7) (n := 1) F hW (k_X5_otherEnd g l σk (L (100 + k)) (pA v k) (pB v k) (pM v k) (pV v k) (pR v k) (pD v k) (pL v k) t ((hWn.2.2.2.2.2.1 k (by omega)).1) (by omega) (by omega)) ((hWn.2.2.2.2.2.1 k (by omega)).1) rfl q679 q680 q681 q96 q682 rfl (by decide +kernel) rfl ⟨⟨Nat.le_of_ble_eq_true rfl, Nat.le_of_ble_eq_true rfl⟩, ⟨(Nat.le_of_ble_eq_true rfl), (Nat.le_of_ble_eq_true rfl)⟩⟩ (Nat.le_of_ble_eq_true rfl) hl.1 rfl dX9_from_94 cX_no (fun r25 σ25 H locs hp25 hW => ?_)
                  obtain ⟨rfl, hs25⟩ := hp25
                  rw [hs25] at hW
                  refine W.eq (g2 := F0 m_ 97 ls (.int (nI (oth (pA v k) (pB v k) t)) :: .ref ar :: [])) rfl ?_
                  refine n_zald (i := oth (pA v k) (pB v k) t) (n := 8) (f := (fun x9 => bI (Bk x9))) (x := (bI (Bk (oth (pA v k) (pB v k) t)))) F hW (ean) (Nat.lt_of_lt_of_le (oth_lt hpq.1 hpq.2.1) hI.1) (by omega) (rfl) dX9_from_97 ?_
                  refine b_if_ne (b := (Bk (oth (pA v k) (pB v k) t))) (tgt := 110) F dX9_from_98 (by decide) (fun c_98 => ?_) (fun c_98 => ?_)
                  · refine lv_iinc (k := 4) (v := (nI (k + 1))) (lv' := [(2, .int (nI (k + 1))), (4, .int (bI (use v s c k))), (3, .ref (L (100 + k))), (0, .ref h), (1, .int (nI t))]) F.x F.cd dX9_from_110 hl rfl (inc_nI k 1) (by decide) rfl (fun ls hl => ?_)
                    refine lv_goto (tgt := 9) F.x F.cd dX9_from_113 (by decide) ?_
                    exact ih9 (k + 1) σk Bk (by omega) (hσk) (hWI.skip (Or.inr (Or.inr c_98))) H locs ls hW (lv_sub hl [3, 4, 0] rfl)
                  · refine lv_aload_n F.x F.cd dX9_from_101 rfl (lv_at hl 2 rfl) ?_
                    refine lv_aload_n F.x F.cd dX9_from_102 rfl (lv_at hl 1 rfl) ?_
                    refine lv_iload_n F.x F.cd dX9_from_103 rfl (lv_at hl 3 rfl) ?_
                    refine s_callV (As := [.int (nI t)]) (rest := [.ref h]) (C := RX5) (T := TX5) (N := 7) (n := 1) F hW (k_X5_otherEnd g l σk (L (100 + k)) (pA v k) (pB v k) (pM v k) (pV v k) (pR v k) (pD v k) (pL v k) t ((hWn.2.2.2.2.2.1 k (by omega)).1) (by omega) (by omega)) ((hWn.2.2.2.2.2.1 k (by omega)).1) rfl q679 q680 q681 q96 q682 rfl (by decide +kernel) rfl ⟨⟨Nat.le_of_ble_eq_true rfl, Nat.le_of_ble_eq_true rfl⟩, ⟨(Nat.le_of_ble_eq_true rfl), (Nat.le_of_ble_eq_true rfl)⟩⟩ (Nat.le_of_ble_eq_true rfl) hl.1 rfl dX9_from_104 cX_no (fun r26 σ26 H locs hp26 hW => ?_)
                    obtain ⟨rfl, hs26⟩ := hp26
                    rw [hs26] at hW
                    refine W.eq (g2 := F0 m_ 107 ls (.int (nI (oth (pA v k) (pB v k) t)) :: .ref h :: [])) rfl ?_
                    refine s_callV (As := [.int (nI (oth (pA v k) (pB v k) t))]) (rest := []) (C := RX9) (T := TX9) (N := 4) (n := 1) F hW (k_X9_from_3 g l σk L v h ar s (oth (pA v k) (pB v k) t) c Bk hWn hI e0n ean ba hs (oth_lt hpq.1 hpq.2.1) c_98 (by have := unvN_lt hWI.2.1 hR hWI.1 8 (by omega); unfold unv at hun ⊢; omega)) (e0n) rfl q683 q319 q320 q107 q321 rfl (by decide +kernel) rfl ⟨⟨Nat.le_of_ble_eq_true rfl, Nat.le_of_ble_eq_true rfl⟩, ⟨(Nat.le_of_ble_eq_true rfl), (Nat.le_of_ble_eq_true rfl)⟩⟩ (Nat.le_of_ble_eq_true rfl) hl.1 rfl dX9_from_107 cX_no (fun r27 σ27 H locs hp27 hW => ?_)
                    obtain ⟨rfl, B9, hσ9, hP9⟩ := hp27
                    refine W.eq (g2 := F0 m_ 110 ls ([])) rfl ?_
                    refine lv_iinc (k := 4) (v := (nI (k + 1))) (lv' := [(2, .int (nI (k + 1))), (4, .int (bI (use v s c k))), (3, .ref (L (100 + k))), (0, .ref h), (1, .int (nI t))]) F.x F.cd dX9_from_110 hl rfl (inc_nI k 1) (by decide) rfl (fun ls hl => ?_)
                    refine lv_goto (tgt := 9) F.x F.cd dX9_from_113 (by decide) ?_
                    exact ih9 (k + 1) σ27 B9 (by omega) (by rw [hσ9, hσk, sset_sset]) (hWI.step hI (by omega) c_77 c_85 hP9) H locs ls hW (lv_sub hl [3, 4, 0] rfl)
  exact loop9 (v 1) 0 _ _ (by omega) (hσ0) (WI.start) H locs ls hW (lv_sub hl [1, 2, 0] rfl)
set_option maxHeartbeats 4000000 in
theorem k_X9_from_5 (g : Gh) (l : Launch) (σ : Sto) (L v : Nat → Nat) (h ar s t : Nat) (c : Int32) (B : Nat → Bool) (hWk : IsWorks g σ L v) (hI : Inv v) (e0 : σ h = some (.inr (12, [.ref ar, .int (nI s), .int c, .ref (L 0)]))) (ea : σ ar = some (eI g 2 8 (fun j => bI (B j)))) (ba : gB g ≤ ar) (hs : s < 2 ^ 30) (ht : t < v 0) (hR : B t = false) (hun : unv B ≤ 5) : Ct g l yX9_from cX9_from 5 none ({ frames := 7, cells := 0, slots := 0, locals := 160 } : Room) [.ref h, .int (nI t)] σ (fun r σ' => r = none ∧ ∃ R' : Nat → Bool, σ' = sset σ ar (eI g 2 8 (fun j => bI (R' j))) ∧ WP v s c B t R') (nox) := by
  refine Ct.body (by decide) (Nat.le_of_ble_eq_true rfl) ?_
  intro p_ e_ s_ m_ args_ below_ meth_ c_ ls H locs Q F hW hl hQ
  have hl : lv_has ls 5 [(0, .ref h), (1, .int (nI t))] := hl
  have hT := hWk.2.2.1
  have hP := hWk.2.2.2.1
  obtain ⟨mcT, nT, fT, eT, bT, -⟩ := id hT
  obtain ⟨mcP, nP, fP, eP, bP, -⟩ := id hP
  have hv0 := hI.1
  have hv1 := hI.2.1
  refine lv_aload_n F.x F.cd dX9_from_0 rfl (lv_at hl 0 rfl) ?_
  refine s_get F hW (ci := 12) (C := RX9) (T := TX9) (N := 4) (v := .ref ar) (e0) rfl in_X9 0 (by decide) q301 (fun _ h9 => h9) rfl dX9_from_1 ?_
  refine lv_iload_n F.x F.cd dX9_from_4 rfl (lv_at hl 1 rfl) ?_
  refine lv_iconst (v := (nI 1)) F.x F.cd dX9_from_5 (by decide) ?_
  refine n_zast (i := t) F hW (ea) (ba) (by omega) (by omega) (show narrow .boolean (.int (nI 1)) = .int (nI 1) by decide) dX9_from_6 (fun H locs hW => ?_)
  obtain ⟨σ1, hσ1⟩ : ∃ z, z = sset σ ar (eI g 2 8 (upd (fun x9 => bI (B x9)) t (nI 1))) := ⟨_, rfl⟩
  have hW : Hl g σ1 H locs := by rw [hσ1]; exact hW
  have w1 : σ1 ar = some (eI g 2 8 (upd (fun x9 => bI (B x9)) t (nI 1))) := by rw [hσ1]; exact sset_eq
  have f2 : σ1 (L 0) = some (.inr (1, [.ref (L 1), .ref (L 2), .int (nI (v 2)), .int (nI (v 3)), .int (nI (v 4)), .int (nI (v 5))])) := by rw [hσ1, sset_ne (sto_ne ea hWk.1 (by simp))]; exact hWk.1
  have f3 : σ1 (L 1) = some (.inr (2, [.int mcT, .ref (L 3), .int (nI (v 0))])) := by rw [hσ1, sset_ne (sto_ne ea eT (by simp))]; exact eT
  have j4 := IsList.setI (e := eI g 2 8 (upd (fun x9 => bI (B x9)) t (nI 1))) (hT) (ea)
  rw [← hσ1] at j4
  have f5 : σ1 (L 2) = some (.inr (2, [.int mcP, .ref (L 4), .int (nI (v 1))])) := by rw [hσ1, sset_ne (sto_ne ea eP (by simp))]; exact eP
  have j6 := IsList.setI (e := eI g 2 8 (upd (fun x9 => bI (B x9)) t (nI 1))) (hP) (ea)
  rw [← hσ1] at j6
  have f7 : σ1 h = some (.inr (12, [.ref ar, .int (nI s), .int c, .ref (L 0)])) := by rw [hσ1, sset_ne (sto_ne ea e0 (by simp))]; exact e0
  have hσ0 : σ1 = sset σ ar (eI g 2 8 (fun j => bI (va_up B t true j))) := by rw [hσ1, updB]
  refine lv_iconst (v := (nI 0)) F.x F.cd dX9_from_7 (by decide) ?_
  refine lv_istore_n (lv' := [(2, .int (nI 0)), (0, .ref h), (1, .int (nI t))]) F.x F.cd dX9_from_8 rfl hl (by decide) rfl (fun ls hl => ?_)
  have loop9 : ∀ (n : Nat) (k : Nat) (σk : Sto) (Bk : Nat → Bool), k + n = v 1 → (σk = sset σ ar (eI g 2 8 (fun j => bI (Bk j)))) → WI v s c B t Bk k → ∀ (H : Heap) (locs : List Loc) (ls : Array Slot), Hl g σk H locs → lv_has ls 5 [(0, .ref h), (1, .int (nI t)), (2, .int (nI k))] → W p_ l e_ ({ frames := 7, cells := 0, slots := 0, locals := 160 } : Room) s_ m_ args_ below_ meth_ c_ H locs 0 0 Q (F0 m_ 9 ls ([])) := by
    intro n
    induction n with
    | zero =>
      intro k σk Bk hkn hσk hWI H locs ls hW hl
      have hWn : IsWorks g σk L v := by rw [hσk]; exact hWk.setI ea
      have e0n : σk h = some (.inr (12, [.ref ar, .int (nI s), .int c, .ref (L 0)])) := by rw [hσk, sset_ne (sto_ne ea e0 (by simp))]; exact e0
      have ean : σk ar = some (eI g 2 8 (fun j => bI (Bk j))) := by rw [hσk, sset_eq]
      have hT_k := hWn.2.2.1
      have hP_k := hWn.2.2.2.1
      obtain ⟨mcT_k, nT_k, fT_k, eT_k, bT_k, -⟩ := id hT_k
      obtain ⟨mcP_k, nP_k, fP_k, eP_k, bP_k, -⟩ := id hP_k
      have hv0_k := hI.1
      have hv1_k := hI.2.1
      refine lv_iload_n F.x F.cd dX9_from_9 rfl (lv_at hl 2 rfl) ?_
      refine lv_aload_n F.x F.cd dX9_from_10 rfl (lv_at hl 0 rfl) ?_
      refine s_get F hW (ci := 12) (C := RX9) (T := TX9) (N := 4) (v := .ref (L 0)) (e0n) rfl in_X9 3 (by decide) q305 (fun _ h9 => h9) rfl dX9_from_11 ?_
      refine s_getN F hW (ci := 1) (C := RX2) (T := TX2) (N := 6) (v := .ref (L 2)) (hWn.1) rfl in_X2 1 (by decide) q163 (fun _ h9 => h9) rfl dX9_from_14 ?_
      refine s_callF (As := []) (rest := [.int (nI k)]) (C := RJ2) (T := TJ2) (N := 3) (n := 0) F hW (k_J2_size g l σk _ _ _ _ hP_k) (eP_k) rfl (List.mem_of_getElem? (i := 0) rfl) q323 q272 q274 q72 q276 (by decide +kernel) rfl ⟨⟨Nat.le_of_ble_eq_true rfl, Nat.le_of_ble_eq_true rfl⟩, ⟨(Nat.le_of_ble_eq_true rfl), (Nat.le_of_ble_eq_true rfl)⟩⟩ (Nat.le_of_ble_eq_true rfl) hl.1 rfl dX9_from_17 cX_no (fun r8 σ8 H locs hp8 hW => ?_)
      obtain ⟨rfl, hs8⟩ := hp8
      rw [hs8] at hW
      refine W.eq (g2 := F0 m_ 22 ls (.int (nI (v 1)) :: .int (nI k) :: [])) rfl ?_
      refine n_icmp_ge (a := k) (b := v 1) (tgt := 116) F (by omega) (by omega) dX9_from_22 (by decide) (fun c_22 => ?_) (fun c_22 => ?_)
      · subst hQ
        exact s_retv F hW (⟨rfl, Bk, hσk, WI.done hI (by rw [← show k = v 1 by omega]; exact hWI)⟩) ⟨(Nat.le_of_ble_eq_true rfl), (Nat.le_of_ble_eq_true rfl)⟩ dX9_from_116
      · exact absurd c_22 (by omega)
    | succ n ih9 =>
      intro k σk Bk hkn hσk hWI H locs ls hW hl
      have hWn : IsWorks g σk L v := by rw [hσk]; exact hWk.setI ea
      have e0n : σk h = some (.inr (12, [.ref ar, .int (nI s), .int c, .ref (L 0)])) := by rw [hσk, sset_ne (sto_ne ea e0 (by simp))]; exact e0
      have ean : σk ar = some (eI g 2 8 (fun j => bI (Bk j))) := by rw [hσk, sset_eq]
      have hT_k := hWn.2.2.1
      have hP_k := hWn.2.2.2.1
      obtain ⟨mcT_k, nT_k, fT_k, eT_k, bT_k, -⟩ := id hT_k
      obtain ⟨mcP_k, nP_k, fP_k, eP_k, bP_k, -⟩ := id hP_k
      have hv0_k := hI.1
      have hv1_k := hI.2.1
      refine lv_iload_n F.x F.cd dX9_from_9 rfl (lv_at hl 2 rfl) ?_
      refine lv_aload_n F.x F.cd dX9_from_10 rfl (lv_at hl 0 rfl) ?_
      refine s_get F hW (ci := 12) (C := RX9) (T := TX9) (N := 4) (v := .ref (L 0)) (e0n) rfl in_X9 3 (by decide) q305 (fun _ h9 => h9) rfl dX9_from_11 ?_
      refine s_getN F hW (ci := 1) (C := RX2) (T := TX2) (N := 6) (v := .ref (L 2)) (hWn.1) rfl in_X2 1 (by decide) q163 (fun _ h9 => h9) rfl dX9_from_14 ?_
      refine s_callF (As := []) (rest := [.int (nI k)]) (C := RJ2) (T := TJ2) (N := 3) (n := 0) F hW (k_J2_size g l σk _ _ _ _ hP_k) (eP_k) rfl (List.mem_of_getElem? (i := 0) rfl) q323 q272 q274 q72 q276 (by decide +kernel) rfl ⟨⟨Nat.le_of_ble_eq_true rfl, Nat.le_of_ble_eq_true rfl⟩, ⟨(Nat.le_of_ble_eq_true rfl), (Nat.le_of_ble_eq_true rfl)⟩⟩ (Nat.le_of_ble_eq_true rfl) hl.1 rfl dX9_from_17 cX_no (fun r9 σ9 H locs hp9 hW => ?_)
      obtain ⟨rfl, hs9⟩ := hp9
      rw [hs9] at hW
      refine W.eq (g2 := F0 m_ 22 ls (.int (nI (v 1)) :: .int (nI k) :: [])) rfl ?_
      refine n_icmp_ge (a := k) (b := v 1) (tgt := 116) F (by omega) (by omega) dX9_from_22 (by decide) (fun c_22 => ?_) (fun c_22 => ?_)
      · exact absurd c_22 (by omega)
      · have hpq := hI.pp (q := k) (by omega)
        refine lv_aload_n F.x F.cd dX9_from_25 rfl (lv_at hl 0 rfl) ?_
        refine s_get F hW (ci := 12) (C := RX9) (T := TX9) (N := 4) (v := .ref (L 0)) (e0n) rfl in_X9 3 (by decide) q305 (fun _ h9 => h9) rfl dX9_from_26 ?_
        refine s_getN F hW (ci := 1) (C := RX2) (T := TX2) (N := 6) (v := .ref (L 2)) (hWn.1) rfl in_X2 1 (by decide) q163 (fun _ h9 => h9) rfl dX9_from_29 ?_
        refine lv_iload_n F.x F.cd dX9_from_32 rfl (lv_at hl 2 rfl) ?_
        refine s_callF (As := [.int (nI k)]) (rest := []) (C := RJ2) (T := TJ2) (N := 3) (n := 1) F hW (k_J2_get g l σk _ _ _ _ k hP_k (by omega)) (eP_k) rfl (List.mem_of_getElem? (i := 1) rfl) q325 q328 q330 q72 q332 (by decide +kernel) rfl ⟨⟨Nat.le_of_ble_eq_true rfl, Nat.le_of_ble_eq_true rfl⟩, ⟨(Nat.le_of_ble_eq_true rfl), (Nat.le_of_ble_eq_true rfl)⟩⟩ (Nat.le_of_ble_eq_true rfl) hl.1 rfl dX9_from_33 cX_no (fun r10 σ10 H locs hp10 hW => ?_)
        obtain ⟨rfl, hs10⟩ := hp10
        rw [hs10] at hW
        refine W.eq (g2 := F0 m_ 38 ls (.ref (L (100 + k)) :: [])) rfl ?_
        refine s_cast_ F hW (C := RX5) (T := TX5) (N := 7) ((hWn.2.2.2.2.2.1 k (by omega)).1) rfl q670 dX9_from_38 ?_
        refine lv_astore_n (lv' := [(3, .ref (L (100 + k))), (0, .ref h), (1, .int (nI t)), (2, .int (nI k))]) F.x F.cd dX9_from_41 rfl hl (by decide) rfl (fun ls hl => ?_)
        refine lv_iload_n F.x F.cd dX9_from_42 rfl (lv_at hl 3 rfl) ?_
        refine lv_aload_n F.x F.cd dX9_from_43 rfl (lv_at hl 1 rfl) ?_
        refine s_get F hW (ci := 12) (C := RX9) (T := TX9) (N := 4) (v := .int c) (e0n) rfl in_X9 2 (by decide) q304 (fun _ h9 => h9) rfl dX9_from_44 ?_
        refine lv_icmp_eq (x := (nI k)) (y := c) (tgt := 72) F.x F.cd dX9_from_47 (by decide) (fun c_47 => ?_) (fun c_47 => ?_)
        · refine lv_iconst (v := (nI 0)) F.x F.cd dX9_from_72 (by decide) ?_
          refine W.eq (g2 := F0 m_ 73 ls (.int (bI (use v s c k)) :: [])) (by rw [show use v s c k = false by first | (simp [use, c_47]; done) | (simp [use, c_47]; omega)]; rfl) ?_
          refine lv_istore (lv' := [(4, .int (bI (use v s c k))), (3, .ref (L (100 + k))), (0, .ref h), (1, .int (nI t)), (2, .int (nI k))]) F.x F.cd dX9_from_73 hl (by decide) rfl (fun ls hl => ?_)
          refine lv_iload F.x F.cd dX9_from_75 (lv_at hl 0 rfl) ?_
          refine b_if_eq (b := (use v s c k)) (tgt := 110) F dX9_from_77 (by decide) (fun c_77 => ?_) (fun c_77 => ?_)
          · refine lv_iinc (k := 4) (v := (nI (k + 1))) (lv' := [(2, .int (nI (k + 1))), (4, .int (bI (use v s c k))), (3, .ref (L (100 + k))), (0, .ref h), (1, .int (nI t))]) F.x F.cd dX9_from_110 hl rfl (inc_nI k 1) (by decide) rfl (fun ls hl => ?_)
            refine lv_goto (tgt := 9) F.x F.cd dX9_from_113 (by decide) ?_
            exact ih9 (k + 1) σk Bk (by omega) (hσk) (hWI.skip (Or.inl c_77)) H locs ls hW (lv_sub hl [3, 4, 0] rfl)
          · refine lv_aload_n F.x F.cd dX9_from_80 rfl (lv_at hl 1 rfl) ?_
            refine lv_iload_n F.x F.cd dX9_from_81 rfl (lv_at hl 3 rfl) ?_
            refine s_callV (As := [.int (nI t)]) (rest := []) (C := RX5) (T := TX5) (N := 7) (n := 1) F hW (k_X5_touches g l σk (L (100 + k)) (pA v k) (pB v k) (pM v k) (pV v k) (pR v k) (pD v k) (pL v k) t ((hWn.2.2.2.2.2.1 k (by omega)).1) (by omega) (by omega) (by omega)) ((hWn.2.2.2.2.2.1 k (by omega)).1) rfl q675 q676 q677 q96 q678 rfl (by decide +kernel) rfl ⟨⟨Nat.le_of_ble_eq_true rfl, Nat.le_of_ble_eq_true rfl⟩, ⟨(Nat.le_of_ble_eq_true rfl), (Nat.le_of_ble_eq_true rfl)⟩⟩ (Nat.le_of_ble_eq_true rfl) hl.1 rfl dX9_from_82 cX_no (fun r11 σ11 H locs hp11 hW => ?_)
            obtain ⟨rfl, hs11⟩ := hp11
            rw [hs11] at hW
            refine W.eq (g2 := F0 m_ 85 ls (.int (bI (tch (pA v k) (pB v k) t)) :: [])) rfl ?_
            refine b_if_eq (b := (tch (pA v k) (pB v k) t)) (tgt := 110) F dX9_from_85 (by decide) (fun c_85 => ?_) (fun c_85 => ?_)
            · refine lv_iinc (k := 4) (v := (nI (k + 1))) (lv' := [(2, .int (nI (k + 1))), (4, .int (bI (use v s c k))), (3, .ref (L (100 + k))), (0, .ref h), (1, .int (nI t))]) F.x F.cd dX9_from_110 hl rfl (inc_nI k 1) (by decide) rfl (fun ls hl => ?_)
              refine lv_goto (tgt := 9) F.x F.cd dX9_from_113 (by decide) ?_
              exact ih9 (k + 1) σk Bk (by omega) (hσk) (hWI.skip (Or.inr (Or.inl c_85))) H locs ls hW (lv_sub hl [3, 4, 0] rfl)
            · refine lv_aload_n F.x F.cd dX9_from_88 rfl (lv_at hl 2 rfl) ?_
              refine s_get F hW (ci := 12) (C := RX9) (T := TX9) (N := 4) (v := .ref ar) (e0n) rfl in_X9 0 (by decide) q301 (fun _ h9 => h9) rfl dX9_from_89 ?_
              refine lv_aload_n F.x F.cd dX9_from_92 rfl (lv_at hl 1 rfl) ?_
              refine lv_iload_n F.x F.cd dX9_from_93 rfl (lv_at hl 3 rfl) ?_
              refine s_callV (As := [.int (nI t)]) (rest := [.ref ar]) (C := RX5) (T := TX5) (N := 7) (n := 1) F hW (k_X5_otherEnd g l σk (L (100 + k)) (pA v k) (pB v k) (pM v k) (pV v k) (pR v k) (pD v k) (pL v k) t ((hWn.2.2.2.2.2.1 k (by omega)).1) (by omega) (by omega)) ((hWn.2.2.2.2.2.1 k (by omega)).1) rfl q679 q680 q681 q96 q682 rfl (by decide +kernel) rfl ⟨⟨Nat.le_of_ble_eq_true rfl, Nat.le_of_ble_eq_true rfl⟩, ⟨(Nat.le_of_ble_eq_true rfl), (Nat.le_of_ble_eq_true rfl)⟩⟩ (Nat.le_of_ble_eq_true rfl) hl.1 rfl dX9_from_94 cX_no (fun r12 σ12 H locs hp12 hW => ?_)
              obtain ⟨rfl, hs12⟩ := hp12
              rw [hs12] at hW
              refine W.eq (g2 := F0 m_ 97 ls (.int (nI (oth (pA v k) (pB v k) t)) :: .ref ar :: [])) rfl ?_
              refine n_zald (i := oth (pA v k) (pB v k) t) (n := 8) (f := (fun x9 => bI (Bk x9))) (x := (bI (Bk (oth (pA v k) (pB v k) t)))) F hW (ean) (Nat.lt_of_lt_of_le (oth_lt hpq.1 hpq.2.1) hI.1) (by omega) (rfl) dX9_from_97 ?_
              refine b_if_ne (b := (Bk (oth (pA v k) (pB v k) t))) (tgt := 110) F dX9_from_98 (by decide) (fun c_98 => ?_) (fun c_98 => ?_)
              · refine lv_iinc (k := 4) (v := (nI (k + 1))) (lv' := [(2, .int (nI (k + 1))), (4, .int (bI (use v s c k))), (3, .ref (L (100 + k))), (0, .ref h), (1, .int (nI t))]) F.x F.cd dX9_from_110 hl rfl (inc_nI k 1) (by decide) rfl (fun ls hl => ?_)
                refine lv_goto (tgt := 9) F.x F.cd dX9_from_113 (by decide) ?_
                exact ih9 (k + 1) σk Bk (by omega) (hσk) (hWI.skip (Or.inr (Or.inr c_98))) H locs ls hW (lv_sub hl [3, 4, 0] rfl)
              · refine lv_aload_n F.x F.cd dX9_from_101 rfl (lv_at hl 2 rfl) ?_
                refine lv_aload_n F.x F.cd dX9_from_102 rfl (lv_at hl 1 rfl) ?_
                refine lv_iload_n F.x F.cd dX9_from_103 rfl (lv_at hl 3 rfl) ?_
                refine s_callV (As := [.int (nI t)]) (rest := [.ref h]) (C := RX5) (T := TX5) (N := 7) (n := 1) F hW (k_X5_otherEnd g l σk (L (100 + k)) (pA v k) (pB v k) (pM v k) (pV v k) (pR v k) (pD v k) (pL v k) t ((hWn.2.2.2.2.2.1 k (by omega)).1) (by omega) (by omega)) ((hWn.2.2.2.2.2.1 k (by omega)).1) rfl q679 q680 q681 q96 q682 rfl (by decide +kernel) rfl ⟨⟨Nat.le_of_ble_eq_true rfl, Nat.le_of_ble_eq_true rfl⟩, ⟨(Nat.le_of_ble_eq_true rfl), (Nat.le_of_ble_eq_true rfl)⟩⟩ (Nat.le_of_ble_eq_true rfl) hl.1 rfl dX9_from_104 cX_no (fun r13 σ13 H locs hp13 hW => ?_)
                obtain ⟨rfl, hs13⟩ := hp13
                rw [hs13] at hW
                refine W.eq (g2 := F0 m_ 107 ls (.int (nI (oth (pA v k) (pB v k) t)) :: .ref h :: [])) rfl ?_
                refine s_callV (As := [.int (nI (oth (pA v k) (pB v k) t))]) (rest := []) (C := RX9) (T := TX9) (N := 4) (n := 1) F hW (k_X9_from_4 g l σk L v h ar s (oth (pA v k) (pB v k) t) c Bk hWn hI e0n ean ba hs (oth_lt hpq.1 hpq.2.1) c_98 (by have := unvN_lt hWI.2.1 hR hWI.1 8 (by omega); unfold unv at hun ⊢; omega)) (e0n) rfl q683 q319 q320 q107 q321 rfl (by decide +kernel) rfl ⟨⟨Nat.le_of_ble_eq_true rfl, Nat.le_of_ble_eq_true rfl⟩, ⟨(Nat.le_of_ble_eq_true rfl), (Nat.le_of_ble_eq_true rfl)⟩⟩ (Nat.le_of_ble_eq_true rfl) hl.1 rfl dX9_from_107 cX_no (fun r14 σ14 H locs hp14 hW => ?_)
                obtain ⟨rfl, B9, hσ9, hP9⟩ := hp14
                refine W.eq (g2 := F0 m_ 110 ls ([])) rfl ?_
                refine lv_iinc (k := 4) (v := (nI (k + 1))) (lv' := [(2, .int (nI (k + 1))), (4, .int (bI (use v s c k))), (3, .ref (L (100 + k))), (0, .ref h), (1, .int (nI t))]) F.x F.cd dX9_from_110 hl rfl (inc_nI k 1) (by decide) rfl (fun ls hl => ?_)
                refine lv_goto (tgt := 9) F.x F.cd dX9_from_113 (by decide) ?_
                exact ih9 (k + 1) σ14 B9 (by omega) (by rw [hσ9, hσk, sset_sset]) (hWI.step hI (by omega) c_77 c_85 hP9) H locs ls hW (lv_sub hl [3, 4, 0] rfl)
        · refine lv_aload_n F.x F.cd dX9_from_50 rfl (lv_at hl 0 rfl) ?_
          refine s_callV (As := []) (rest := []) (C := RX5) (T := TX5) (N := 7) (n := 0) F hW (k_X5_isOpen g l σk (L (100 + k)) (pA v k) (pB v k) (pM v k) (pV v k) (pR v k) (pD v k) (pL v k) ((hWn.2.2.2.2.2.1 k (by omega)).1) (by omega) (by omega)) ((hWn.2.2.2.2.2.1 k (by omega)).1) rfl q671 q672 q673 q96 q674 rfl (by decide +kernel) rfl ⟨⟨Nat.le_of_ble_eq_true rfl, Nat.le_of_ble_eq_true rfl⟩, ⟨(Nat.le_of_ble_eq_true rfl), (Nat.le_of_ble_eq_true rfl)⟩⟩ (Nat.le_of_ble_eq_true rfl) hl.1 rfl dX9_from_51 cX_no (fun r15 σ15 H locs hp15 hW => ?_)
          obtain ⟨rfl, hs15⟩ := hp15
          rw [hs15] at hW
          refine W.eq (g2 := F0 m_ 54 ls (.int (bI (opn (pV v k) (pD v k))) :: [])) rfl ?_
          refine b_if_eq (b := (opn (pV v k) (pD v k))) (tgt := 72) F dX9_from_54 (by decide) (fun c_54 => ?_) (fun c_54 => ?_)
          · refine lv_iconst (v := (nI 0)) F.x F.cd dX9_from_72 (by decide) ?_
            refine W.eq (g2 := F0 m_ 73 ls (.int (bI (use v s c k)) :: [])) (by rw [show use v s c k = false by first | (simp [use, c_47, c_54]; done) | (simp [use, c_47, c_54]; omega)]; rfl) ?_
            refine lv_istore (lv' := [(4, .int (bI (use v s c k))), (3, .ref (L (100 + k))), (0, .ref h), (1, .int (nI t)), (2, .int (nI k))]) F.x F.cd dX9_from_73 hl (by decide) rfl (fun ls hl => ?_)
            refine lv_iload F.x F.cd dX9_from_75 (lv_at hl 0 rfl) ?_
            refine b_if_eq (b := (use v s c k)) (tgt := 110) F dX9_from_77 (by decide) (fun c_77 => ?_) (fun c_77 => ?_)
            · refine lv_iinc (k := 4) (v := (nI (k + 1))) (lv' := [(2, .int (nI (k + 1))), (4, .int (bI (use v s c k))), (3, .ref (L (100 + k))), (0, .ref h), (1, .int (nI t))]) F.x F.cd dX9_from_110 hl rfl (inc_nI k 1) (by decide) rfl (fun ls hl => ?_)
              refine lv_goto (tgt := 9) F.x F.cd dX9_from_113 (by decide) ?_
              exact ih9 (k + 1) σk Bk (by omega) (hσk) (hWI.skip (Or.inl c_77)) H locs ls hW (lv_sub hl [3, 4, 0] rfl)
            · refine lv_aload_n F.x F.cd dX9_from_80 rfl (lv_at hl 1 rfl) ?_
              refine lv_iload_n F.x F.cd dX9_from_81 rfl (lv_at hl 3 rfl) ?_
              refine s_callV (As := [.int (nI t)]) (rest := []) (C := RX5) (T := TX5) (N := 7) (n := 1) F hW (k_X5_touches g l σk (L (100 + k)) (pA v k) (pB v k) (pM v k) (pV v k) (pR v k) (pD v k) (pL v k) t ((hWn.2.2.2.2.2.1 k (by omega)).1) (by omega) (by omega) (by omega)) ((hWn.2.2.2.2.2.1 k (by omega)).1) rfl q675 q676 q677 q96 q678 rfl (by decide +kernel) rfl ⟨⟨Nat.le_of_ble_eq_true rfl, Nat.le_of_ble_eq_true rfl⟩, ⟨(Nat.le_of_ble_eq_true rfl), (Nat.le_of_ble_eq_true rfl)⟩⟩ (Nat.le_of_ble_eq_true rfl) hl.1 rfl dX9_from_82 cX_no (fun r16 σ16 H locs hp16 hW => ?_)
              obtain ⟨rfl, hs16⟩ := hp16
              rw [hs16] at hW
              refine W.eq (g2 := F0 m_ 85 ls (.int (bI (tch (pA v k) (pB v k) t)) :: [])) rfl ?_
              refine b_if_eq (b := (tch (pA v k) (pB v k) t)) (tgt := 110) F dX9_from_85 (by decide) (fun c_85 => ?_) (fun c_85 => ?_)
              · refine lv_iinc (k := 4) (v := (nI (k + 1))) (lv' := [(2, .int (nI (k + 1))), (4, .int (bI (use v s c k))), (3, .ref (L (100 + k))), (0, .ref h), (1, .int (nI t))]) F.x F.cd dX9_from_110 hl rfl (inc_nI k 1) (by decide) rfl (fun ls hl => ?_)
                refine lv_goto (tgt := 9) F.x F.cd dX9_from_113 (by decide) ?_
                exact ih9 (k + 1) σk Bk (by omega) (hσk) (hWI.skip (Or.inr (Or.inl c_85))) H locs ls hW (lv_sub hl [3, 4, 0] rfl)
              · refine lv_aload_n F.x F.cd dX9_from_88 rfl (lv_at hl 2 rfl) ?_
                refine s_get F hW (ci := 12) (C := RX9) (T := TX9) (N := 4) (v := .ref ar) (e0n) rfl in_X9 0 (by decide) q301 (fun _ h9 => h9) rfl dX9_from_89 ?_
                refine lv_aload_n F.x F.cd dX9_from_92 rfl (lv_at hl 1 rfl) ?_
                refine lv_iload_n F.x F.cd dX9_from_93 rfl (lv_at hl 3 rfl) ?_
                refine s_callV (As := [.int (nI t)]) (rest := [.ref ar]) (C := RX5) (T := TX5) (N := 7) (n := 1) F hW (k_X5_otherEnd g l σk (L (100 + k)) (pA v k) (pB v k) (pM v k) (pV v k) (pR v k) (pD v k) (pL v k) t ((hWn.2.2.2.2.2.1 k (by omega)).1) (by omega) (by omega)) ((hWn.2.2.2.2.2.1 k (by omega)).1) rfl q679 q680 q681 q96 q682 rfl (by decide +kernel) rfl ⟨⟨Nat.le_of_ble_eq_true rfl, Nat.le_of_ble_eq_true rfl⟩, ⟨(Nat.le_of_ble_eq_true rfl), (Nat.le_of_ble_eq_true rfl)⟩⟩ (Nat.le_of_ble_eq_true rfl) hl.1 rfl dX9_from_94 cX_no (fun r17 σ17 H locs hp17 hW => ?_)
                obtain ⟨rfl, hs17⟩ := hp17
                rw [hs17] at hW
                refine W.eq (g2 := F0 m_ 97 ls (.int (nI (oth (pA v k) (pB v k) t)) :: .ref ar :: [])) rfl ?_
                refine n_zald (i := oth (pA v k) (pB v k) t) (n := 8) (f := (fun x9 => bI (Bk x9))) (x := (bI (Bk (oth (pA v k) (pB v k) t)))) F hW (ean) (Nat.lt_of_lt_of_le (oth_lt hpq.1 hpq.2.1) hI.1) (by omega) (rfl) dX9_from_97 ?_
                refine b_if_ne (b := (Bk (oth (pA v k) (pB v k) t))) (tgt := 110) F dX9_from_98 (by decide) (fun c_98 => ?_) (fun c_98 => ?_)
                · refine lv_iinc (k := 4) (v := (nI (k + 1))) (lv' := [(2, .int (nI (k + 1))), (4, .int (bI (use v s c k))), (3, .ref (L (100 + k))), (0, .ref h), (1, .int (nI t))]) F.x F.cd dX9_from_110 hl rfl (inc_nI k 1) (by decide) rfl (fun ls hl => ?_)
                  refine lv_goto (tgt := 9) F.x F.cd dX9_from_113 (by decide) ?_
                  exact ih9 (k + 1) σk Bk (by omega) (hσk) (hWI.skip (Or.inr (Or.inr c_98))) H locs ls hW (lv_sub hl [3, 4, 0] rfl)
                · refine lv_aload_n F.x F.cd dX9_from_101 rfl (lv_at hl 2 rfl) ?_
                  refine lv_aload_n F.x F.cd dX9_from_102 rfl (lv_at hl 1 rfl) ?_
                  refine lv_iload_n F.x F.cd dX9_from_103 rfl (lv_at hl 3 rfl) ?_
                  refine s_callV (As := [.int (nI t)]) (rest := [.ref h]) (C := RX5) (T := TX5) (N := 7) (n := 1) F hW (k_X5_otherEnd g l σk (L (100 + k)) (pA v k) (pB v k) (pM v k) (pV v k) (pR v k) (pD v k) (pL v k) t ((hWn.2.2.2.2.2.1 k (by omega)).1) (by omega) (by omega)) ((hWn.2.2.2.2.2.1 k (by omega)).1) rfl q679 q680 q681 q96 q682 rfl (by decide +kernel) rfl ⟨⟨Nat.le_of_ble_eq_true rfl, Nat.le_of_ble_eq_true rfl⟩, ⟨(Nat.le_of_ble_eq_true rfl), (Nat.le_of_ble_eq_true rfl)⟩⟩ (Nat.le_of_ble_eq_true rfl) hl.1 rfl dX9_from_104 cX_no (fun r18 σ18 H locs hp18 hW => ?_)
                  obtain ⟨rfl, hs18⟩ := hp18
                  rw [hs18] at hW
                  refine W.eq (g2 := F0 m_ 107 ls (.int (nI (oth (pA v k) (pB v k) t)) :: .ref h :: [])) rfl ?_
                  refine s_callV (As := [.int (nI (oth (pA v k) (pB v k) t))]) (rest := []) (C := RX9) (T := TX9) (N := 4) (n := 1) F hW (k_X9_from_4 g l σk L v h ar s (oth (pA v k) (pB v k) t) c Bk hWn hI e0n ean ba hs (oth_lt hpq.1 hpq.2.1) c_98 (by have := unvN_lt hWI.2.1 hR hWI.1 8 (by omega); unfold unv at hun ⊢; omega)) (e0n) rfl q683 q319 q320 q107 q321 rfl (by decide +kernel) rfl ⟨⟨Nat.le_of_ble_eq_true rfl, Nat.le_of_ble_eq_true rfl⟩, ⟨(Nat.le_of_ble_eq_true rfl), (Nat.le_of_ble_eq_true rfl)⟩⟩ (Nat.le_of_ble_eq_true rfl) hl.1 rfl dX9_from_107 cX_no (fun r19 σ19 H locs hp19 hW => ?_)
                  obtain ⟨rfl, B9, hσ9, hP9⟩ := hp19
                  refine W.eq (g2 := F0 m_ 110 ls ([])) rfl ?_
                  refine lv_iinc (k := 4) (v := (nI (k + 1))) (lv' := [(2, .int (nI (k + 1))), (4, .int (bI (use v s c k))), (3, .ref (L (100 + k))), (0, .ref h), (1, .int (nI t))]) F.x F.cd dX9_from_110 hl rfl (inc_nI k 1) (by decide) rfl (fun ls hl => ?_)
                  refine lv_goto (tgt := 9) F.x F.cd dX9_from_113 (by decide) ?_
                  exact ih9 (k + 1) σ19 B9 (by omega) (by rw [hσ9, hσk, sset_sset]) (hWI.step hI (by omega) c_77 c_85 hP9) H locs ls hW (lv_sub hl [3, 4, 0] rfl)
          · refine lv_aload_n F.x F.cd dX9_from_57 rfl (lv_at hl 0 rfl) ?_
            refine s_getN F hW (ci := 9) (C := RX5) (T := TX5) (N := 7) (v := .int (nI (pV v k))) ((hWn.2.2.2.2.2.1 k (by omega)).1) rfl in_X5 3 (by decide) q1078 (fun _ h9 => h9) rfl dX9_from_58 ?_
            refine lv_aload_n F.x F.cd dX9_from_61 rfl (lv_at hl 1 rfl) ?_
            refine s_get F hW (ci := 12) (C := RX9) (T := TX9) (N := 4) (v := .int (nI s)) (e0n) rfl in_X9 1 (by decide) q303 (fun _ h9 => h9) rfl dX9_from_62 ?_
            refine n_icmp_lt (a := pV v k) (b := s) (tgt := 72) F (by omega) (by omega) dX9_from_65 (by decide) (fun c_65 => ?_) (fun c_65 => ?_)
            · refine lv_iconst (v := (nI 0)) F.x F.cd dX9_from_72 (by decide) ?_
              refine W.eq (g2 := F0 m_ 73 ls (.int (bI (use v s c k)) :: [])) (by rw [show use v s c k = false by first | (simp [use, c_47, c_54, c_65]; done) | (simp [use, c_47, c_54, c_65]; omega)]; rfl) ?_
              refine lv_istore (lv' := [(4, .int (bI (use v s c k))), (3, .ref (L (100 + k))), (0, .ref h), (1, .int (nI t)), (2, .int (nI k))]) F.x F.cd dX9_from_73 hl (by decide) rfl (fun ls hl => ?_)
              refine lv_iload F.x F.cd dX9_from_75 (lv_at hl 0 rfl) ?_
              refine b_if_eq (b := (use v s c k)) (tgt := 110) F dX9_from_77 (by decide) (fun c_77 => ?_) (fun c_77 => ?_)
              · refine lv_iinc (k := 4) (v := (nI (k + 1))) (lv' := [(2, .int (nI (k + 1))), (4, .int (bI (use v s c k))), (3, .ref (L (100 + k))), (0, .ref h), (1, .int (nI t))]) F.x F.cd dX9_from_110 hl rfl (inc_nI k 1) (by decide) rfl (fun ls hl => ?_)
                refine lv_goto (tgt := 9) F.x F.cd dX9_from_113 (by decide) ?_
                exact ih9 (k + 1) σk Bk (by omega) (hσk) (hWI.skip (Or.inl c_77)) H locs ls hW (lv_sub hl [3, 4, 0] rfl)
              · refine lv_aload_n F.x F.cd dX9_from_80 rfl (lv_at hl 1 rfl) ?_
                refine lv_iload_n F.x F.cd dX9_from_81 rfl (lv_at hl 3 rfl) ?_
                refine s_callV (As := [.int (nI t)]) (rest := []) (C := RX5) (T := TX5) (N := 7) (n := 1) F hW (k_X5_touches g l σk (L (100 + k)) (pA v k) (pB v k) (pM v k) (pV v k) (pR v k) (pD v k) (pL v k) t ((hWn.2.2.2.2.2.1 k (by omega)).1) (by omega) (by omega) (by omega)) ((hWn.2.2.2.2.2.1 k (by omega)).1) rfl q675 q676 q677 q96 q678 rfl (by decide +kernel) rfl ⟨⟨Nat.le_of_ble_eq_true rfl, Nat.le_of_ble_eq_true rfl⟩, ⟨(Nat.le_of_ble_eq_true rfl), (Nat.le_of_ble_eq_true rfl)⟩⟩ (Nat.le_of_ble_eq_true rfl) hl.1 rfl dX9_from_82 cX_no (fun r20 σ20 H locs hp20 hW => ?_)
                obtain ⟨rfl, hs20⟩ := hp20
                rw [hs20] at hW
                refine W.eq (g2 := F0 m_ 85 ls (.int (bI (tch (pA v k) (pB v k) t)) :: [])) rfl ?_
                refine b_if_eq (b := (tch (pA v k) (pB v k) t)) (tgt := 110) F dX9_from_85 (by decide) (fun c_85 => ?_) (fun c_85 => ?_)
                · refine lv_iinc (k := 4) (v := (nI (k + 1))) (lv' := [(2, .int (nI (k + 1))), (4, .int (bI (use v s c k))), (3, .ref (L (100 + k))), (0, .ref h), (1, .int (nI t))]) F.x F.cd dX9_from_110 hl rfl (inc_nI k 1) (by decide) rfl (fun ls hl => ?_)
                  refine lv_goto (tgt := 9) F.x F.cd dX9_from_113 (by decide) ?_
                  exact ih9 (k + 1) σk Bk (by omega) (hσk) (hWI.skip (Or.inr (Or.inl c_85))) H locs ls hW (lv_sub hl [3, 4, 0] rfl)
                · refine lv_aload_n F.x F.cd dX9_from_88 rfl (lv_at hl 2 rfl) ?_
                  refine s_get F hW (ci := 12) (C := RX9) (T := TX9) (N := 4) (v := .ref ar) (e0n) rfl in_X9 0 (by decide) q301 (fun _ h9 => h9) rfl dX9_from_89 ?_
                  refine lv_aload_n F.x F.cd dX9_from_92 rfl (lv_at hl 1 rfl) ?_
                  refine lv_iload_n F.x F.cd dX9_from_93 rfl (lv_at hl 3 rfl) ?_
                  refine s_callV (As := [.int (nI t)]) (rest := [.ref ar]) (C := RX5) (T := TX5) (N := 7) (n := 1) F hW (k_X5_otherEnd g l σk (L (100 + k)) (pA v k) (pB v k) (pM v k) (pV v k) (pR v k) (pD v k) (pL v k) t ((hWn.2.2.2.2.2.1 k (by omega)).1) (by omega) (by omega)) ((hWn.2.2.2.2.2.1 k (by omega)).1) rfl q679 q680 q681 q96 q682 rfl (by decide +kernel) rfl ⟨⟨Nat.le_of_ble_eq_true rfl, Nat.le_of_ble_eq_true rfl⟩, ⟨(Nat.le_of_ble_eq_true rfl), (Nat.le_of_ble_eq_true rfl)⟩⟩ (Nat.le_of_ble_eq_true rfl) hl.1 rfl dX9_from_94 cX_no (fun r21 σ21 H locs hp21 hW => ?_)
                  obtain ⟨rfl, hs21⟩ := hp21
                  rw [hs21] at hW
                  refine W.eq (g2 := F0 m_ 97 ls (.int (nI (oth (pA v k) (pB v k) t)) :: .ref ar :: [])) rfl ?_
                  refine n_zald (i := oth (pA v k) (pB v k) t) (n := 8) (f := (fun x9 => bI (Bk x9))) (x := (bI (Bk (oth (pA v k) (pB v k) t)))) F hW (ean) (Nat.lt_of_lt_of_le (oth_lt hpq.1 hpq.2.1) hI.1) (by omega) (rfl) dX9_from_97 ?_
                  refine b_if_ne (b := (Bk (oth (pA v k) (pB v k) t))) (tgt := 110) F dX9_from_98 (by decide) (fun c_98 => ?_) (fun c_98 => ?_)
                  · refine lv_iinc (k := 4) (v := (nI (k + 1))) (lv' := [(2, .int (nI (k + 1))), (4, .int (bI (use v s c k))), (3, .ref (L (100 + k))), (0, .ref h), (1, .int (nI t))]) F.x F.cd dX9_from_110 hl rfl (inc_nI k 1) (by decide) rfl (fun ls hl => ?_)
                    refine lv_goto (tgt := 9) F.x F.cd dX9_from_113 (by decide) ?_
                    exact ih9 (k + 1) σk Bk (by omega) (hσk) (hWI.skip (Or.inr (Or.inr c_98))) H locs ls hW (lv_sub hl [3, 4, 0] rfl)
                  · refine lv_aload_n F.x F.cd dX9_from_101 rfl (lv_at hl 2 rfl) ?_
                    refine lv_aload_n F.x F.cd dX9_from_102 rfl (lv_at hl 1 rfl) ?_
                    refine lv_iload_n F.x F.cd dX9_from_103 rfl (lv_at hl 3 rfl) ?_
                    refine s_callV (As := [.int (nI t)]) (rest := [.ref h]) (C := RX5) (T := TX5) (N := 7) (n := 1) F hW (k_X5_otherEnd g l σk (L (100 + k)) (pA v k) (pB v k) (pM v k) (pV v k) (pR v k) (pD v k) (pL v k) t ((hWn.2.2.2.2.2.1 k (by omega)).1) (by omega) (by omega)) ((hWn.2.2.2.2.2.1 k (by omega)).1) rfl q679 q680 q681 q96 q682 rfl (by decide +kernel) rfl ⟨⟨Nat.le_of_ble_eq_true rfl, Nat.le_of_ble_eq_true rfl⟩, ⟨(Nat.le_of_ble_eq_true rfl), (Nat.le_of_ble_eq_true rfl)⟩⟩ (Nat.le_of_ble_eq_true rfl) hl.1 rfl dX9_from_104 cX_no (fun r22 σ22 H locs hp22 hW => ?_)
                    obtain ⟨rfl, hs22⟩ := hp22
                    rw [hs22] at hW
                    refine W.eq (g2 := F0 m_ 107 ls (.int (nI (oth (pA v k) (pB v k) t)) :: .ref h :: [])) rfl ?_
                    refine s_callV (As := [.int (nI (oth (pA v k) (pB v k) t))]) (rest := []) (C := RX9) (T := TX9) (N := 4) (n := 1) F hW (k_X9_from_4 g l σk L v h ar s (oth (pA v k) (pB v k) t) c Bk hWn hI e0n ean ba hs (oth_lt hpq.1 hpq.2.1) c_98 (by have := unvN_lt hWI.2.1 hR hWI.1 8 (by omega); unfold unv at hun ⊢; omega)) (e0n) rfl q683 q319 q320 q107 q321 rfl (by decide +kernel) rfl ⟨⟨Nat.le_of_ble_eq_true rfl, Nat.le_of_ble_eq_true rfl⟩, ⟨(Nat.le_of_ble_eq_true rfl), (Nat.le_of_ble_eq_true rfl)⟩⟩ (Nat.le_of_ble_eq_true rfl) hl.1 rfl dX9_from_107 cX_no (fun r23 σ23 H locs hp23 hW => ?_)
                    obtain ⟨rfl, B9, hσ9, hP9⟩ := hp23
                    refine W.eq (g2 := F0 m_ 110 ls ([])) rfl ?_
                    refine lv_iinc (k := 4) (v := (nI (k + 1))) (lv' := [(2, .int (nI (k + 1))), (4, .int (bI (use v s c k))), (3, .ref (L (100 + k))), (0, .ref h), (1, .int (nI t))]) F.x F.cd dX9_from_110 hl rfl (inc_nI k 1) (by decide) rfl (fun ls hl => ?_)
                    refine lv_goto (tgt := 9) F.x F.cd dX9_from_113 (by decide) ?_
                    exact ih9 (k + 1) σ23 B9 (by omega) (by rw [hσ9, hσk, sset_sset]) (hWI.step hI (by omega) c_77 c_85 hP9) H locs ls hW (lv_sub hl [3, 4, 0] rfl)
            · refine lv_iconst (v := (nI 1)) F.x F.cd dX9_from_68 (by decide) ?_
              refine lv_goto (tgt := 73) F.x F.cd dX9_from_69 (by decide) ?_
              refine W.eq (g2 := F0 m_ 73 ls (.int (bI (use v s c k)) :: [])) (by rw [show use v s c k = true by first | (simp [use, c_47, c_54, c_65]; done) | (simp [use, c_47, c_54, c_65]; omega)]; rfl) ?_
              refine lv_istore (lv' := [(4, .int (bI (use v s c k))), (3, .ref (L (100 + k))), (0, .ref h), (1, .int (nI t)), (2, .int (nI k))]) F.x F.cd dX9_from_73 hl (by decide) rfl (fun ls hl => ?_)
              refine lv_iload F.x F.cd dX9_from_75 (lv_at hl 0 rfl) ?_
              refine b_if_eq (b := (use v s c k)) (tgt := 110) F dX9_from_77 (by decide) (fun c_77 => ?_) (fun c_77 => ?_)
              · refine lv_iinc (k := 4) (v := (nI (k + 1))) (lv' := [(2, .int (nI (k + 1))), (4, .int (bI (use v s c k))), (3, .ref (L (100 + k))), (0, .ref h), (1, .int (nI t))]) F.x F.cd dX9_from_110 hl rfl (inc_nI k 1) (by decide) rfl (fun ls hl => ?_)
                refine lv_goto (tgt := 9) F.x F.cd dX9_from_113 (by decide) ?_
                exact ih9 (k + 1) σk Bk (by omega) (hσk) (hWI.skip (Or.inl c_77)) H locs ls hW (lv_sub hl [3, 4, 0] rfl)
              · refine lv_aload_n F.x F.cd dX9_from_80 rfl (lv_at hl 1 rfl) ?_
                refine lv_iload_n F.x F.cd dX9_from_81 rfl (lv_at hl 3 rfl) ?_
                refine s_callV (As := [.int (nI t)]) (rest := []) (C := RX5) (T := TX5) (N := 7) (n := 1) F hW (k_X5_touches g l σk (L (100 + k)) (pA v k) (pB v k) (pM v k) (pV v k) (pR v k) (pD v k) (pL v k) t ((hWn.2.2.2.2.2.1 k (by omega)).1) (by omega) (by omega) (by omega)) ((hWn.2.2.2.2.2.1 k (by omega)).1) rfl q675 q676 q677 q96 q678 rfl (by decide +kernel) rfl ⟨⟨Nat.le_of_ble_eq_true rfl, Nat.le_of_ble_eq_true rfl⟩, ⟨(Nat.le_of_ble_eq_true rfl), (Nat.le_of_ble_eq_true rfl)⟩⟩ (Nat.le_of_ble_eq_true rfl) hl.1 rfl dX9_from_82 cX_no (fun r24 σ24 H locs hp24 hW => ?_)
                obtain ⟨rfl, hs24⟩ := hp24
                rw [hs24] at hW
                refine W.eq (g2 := F0 m_ 85 ls (.int (bI (tch (pA v k) (pB v k) t)) :: [])) rfl ?_
                refine b_if_eq (b := (tch (pA v k) (pB v k) t)) (tgt := 110) F dX9_from_85 (by decide) (fun c_85 => ?_) (fun c_85 => ?_)
                · refine lv_iinc (k := 4) (v := (nI (k + 1))) (lv' := [(2, .int (nI (k + 1))), (4, .int (bI (use v s c k))), (3, .ref (L (100 + k))), (0, .ref h), (1, .int (nI t))]) F.x F.cd dX9_from_110 hl rfl (inc_nI k 1) (by decide) rfl (fun ls hl => ?_)
                  refine lv_goto (tgt := 9) F.x F.cd dX9_from_113 (by decide) ?_
                  exact ih9 (k + 1) σk Bk (by omega) (hσk) (hWI.skip (Or.inr (Or.inl c_85))) H locs ls hW (lv_sub hl [3, 4, 0] rfl)
                · refine lv_aload_n F.x F.cd dX9_from_88 rfl (lv_at hl 2 rfl) ?_
                  refine s_get F hW (ci := 12) (C := RX9) (T := TX9) (N := 4) (v := .ref ar) (e0n) rfl in_X9 0 (by decide) q301 (fun _ h9 => h9) rfl dX9_from_89 ?_
                  refine lv_aload_n F.x F.cd dX9_from_92 rfl (lv_at hl 1 rfl) ?_
                  refine lv_iload_n F.x F.cd dX9_from_93 rfl (lv_at hl 3 rfl) ?_
                  refine s_callV (As := [.int (nI t)]) (rest := [.ref ar]) (C := RX5) (T := TX5) (N := 7) (n := 1) F hW (k_X5_otherEnd g l σk (L (100 + k)) (pA v k) (pB v k) (pM v k) (pV v k) (pR v k) (pD v k) (pL v k) t ((hWn.2.2.2.2.2.1 k (by omega)).1) (by omega) (by omega)) ((hWn.2.2.2.2.2.1 k (by omega)).1) rfl q679 q680 q681 q96 q682 rfl (by decide +kernel) rfl ⟨⟨Nat.le_of_ble_eq_true rfl, Nat.le_of_ble_eq_true rfl⟩, ⟨(Nat.le_of_ble_eq_true rfl), (Nat.le_of_ble_eq_true rfl)⟩⟩ (Nat.le_of_ble_eq_true rfl) hl.1 rfl dX9_from_94 cX_no (fun r25 σ25 H locs hp25 hW => ?_)
                  obtain ⟨rfl, hs25⟩ := hp25
                  rw [hs25] at hW
                  refine W.eq (g2 := F0 m_ 97 ls (.int (nI (oth (pA v k) (pB v k) t)) :: .ref ar :: [])) rfl ?_
                  refine n_zald (i := oth (pA v k) (pB v k) t) (n := 8) (f := (fun x9 => bI (Bk x9))) (x := (bI (Bk (oth (pA v k) (pB v k) t)))) F hW (ean) (Nat.lt_of_lt_of_le (oth_lt hpq.1 hpq.2.1) hI.1) (by omega) (rfl) dX9_from_97 ?_
                  refine b_if_ne (b := (Bk (oth (pA v k) (pB v k) t))) (tgt := 110) F dX9_from_98 (by decide) (fun c_98 => ?_) (fun c_98 => ?_)
                  · refine lv_iinc (k := 4) (v := (nI (k + 1))) (lv' := [(2, .int (nI (k + 1))), (4, .int (bI (use v s c k))), (3, .ref (L (100 + k))), (0, .ref h), (1, .int (nI t))]) F.x F.cd dX9_from_110 hl rfl (inc_nI k 1) (by decide) rfl (fun ls hl => ?_)
                    refine lv_goto (tgt := 9) F.x F.cd dX9_from_113 (by decide) ?_
                    exact ih9 (k + 1) σk Bk (by omega) (hσk) (hWI.skip (Or.inr (Or.inr c_98))) H locs ls hW (lv_sub hl [3, 4, 0] rfl)
                  · refine lv_aload_n F.x F.cd dX9_from_101 rfl (lv_at hl 2 rfl) ?_
                    refine lv_aload_n F.x F.cd dX9_from_102 rfl (lv_at hl 1 rfl) ?_
                    refine lv_iload_n F.x F.cd dX9_from_103 rfl (lv_at hl 3 rfl) ?_
                    refine s_callV (As := [.int (nI t)]) (rest := [.ref h]) (C := RX5) (T := TX5) (N := 7) (n := 1) F hW (k_X5_otherEnd g l σk (L (100 + k)) (pA v k) (pB v k) (pM v k) (pV v k) (pR v k) (pD v k) (pL v k) t ((hWn.2.2.2.2.2.1 k (by omega)).1) (by omega) (by omega)) ((hWn.2.2.2.2.2.1 k (by omega)).1) rfl q679 q680 q681 q96 q682 rfl (by decide +kernel) rfl ⟨⟨Nat.le_of_ble_eq_true rfl, Nat.le_of_ble_eq_true rfl⟩, ⟨(Nat.le_of_ble_eq_true rfl), (Nat.le_of_ble_eq_true rfl)⟩⟩ (Nat.le_of_ble_eq_true rfl) hl.1 rfl dX9_from_104 cX_no (fun r26 σ26 H locs hp26 hW => ?_)
                    obtain ⟨rfl, hs26⟩ := hp26
                    rw [hs26] at hW
                    refine W.eq (g2 := F0 m_ 107 ls (.int (nI (oth (pA v k) (pB v k) t)) :: .ref h :: [])) rfl ?_
                    refine s_callV (As := [.int (nI (oth (pA v k) (pB v k) t))]) (rest := []) (C := RX9) (T := TX9) (N := 4) (n := 1) F hW (k_X9_from_4 g l σk L v h ar s (oth (pA v k) (pB v k) t) c Bk hWn hI e0n ean ba hs (oth_lt hpq.1 hpq.2.1) c_98 (by have := unvN_lt hWI.2.1 hR hWI.1 8 (by omega); unfold unv at hun ⊢; omega)) (e0n) rfl q683 q319 q320 q107 q321 rfl (by decide +kernel) rfl ⟨⟨Nat.le_of_ble_eq_true rfl, Nat.le_of_ble_eq_true rfl⟩, ⟨(Nat.le_of_ble_eq_true rfl), (Nat.le_of_ble_eq_true rfl)⟩⟩ (Nat.le_of_ble_eq_true rfl) hl.1 rfl dX9_from_107 cX_no (fun r27 σ27 H locs hp27 hW => ?_)
                    obtain ⟨rfl, B9, hσ9, hP9⟩ := hp27
                    refine W.eq (g2 := F0 m_ 110 ls ([])) rfl ?_
                    refine lv_iinc (k := 4) (v := (nI (k + 1))) (lv' := [(2, .int (nI (k + 1))), (4, .int (bI (use v s c k))), (3, .ref (L (100 + k))), (0, .ref h), (1, .int (nI t))]) F.x F.cd dX9_from_110 hl rfl (inc_nI k 1) (by decide) rfl (fun ls hl => ?_)
                    refine lv_goto (tgt := 9) F.x F.cd dX9_from_113 (by decide) ?_
                    exact ih9 (k + 1) σ27 B9 (by omega) (by rw [hσ9, hσk, sset_sset]) (hWI.step hI (by omega) c_77 c_85 hP9) H locs ls hW (lv_sub hl [3, 4, 0] rfl)
  exact loop9 (v 1) 0 _ _ (by omega) (hσ0) (WI.start) H locs ls hW (lv_sub hl [1, 2, 0] rfl)
set_option maxHeartbeats 4000000 in
theorem k_X9_from_6 (g : Gh) (l : Launch) (σ : Sto) (L v : Nat → Nat) (h ar s t : Nat) (c : Int32) (B : Nat → Bool) (hWk : IsWorks g σ L v) (hI : Inv v) (e0 : σ h = some (.inr (12, [.ref ar, .int (nI s), .int c, .ref (L 0)]))) (ea : σ ar = some (eI g 2 8 (fun j => bI (B j)))) (ba : gB g ≤ ar) (hs : s < 2 ^ 30) (ht : t < v 0) (hR : B t = false) (hun : unv B ≤ 6) : Ct g l yX9_from cX9_from 5 none ({ frames := 8, cells := 0, slots := 0, locals := 184 } : Room) [.ref h, .int (nI t)] σ (fun r σ' => r = none ∧ ∃ R' : Nat → Bool, σ' = sset σ ar (eI g 2 8 (fun j => bI (R' j))) ∧ WP v s c B t R') (nox) := by
  refine Ct.body (by decide) (Nat.le_of_ble_eq_true rfl) ?_
  intro p_ e_ s_ m_ args_ below_ meth_ c_ ls H locs Q F hW hl hQ
  have hl : lv_has ls 5 [(0, .ref h), (1, .int (nI t))] := hl
  have hT := hWk.2.2.1
  have hP := hWk.2.2.2.1
  obtain ⟨mcT, nT, fT, eT, bT, -⟩ := id hT
  obtain ⟨mcP, nP, fP, eP, bP, -⟩ := id hP
  have hv0 := hI.1
  have hv1 := hI.2.1
  refine lv_aload_n F.x F.cd dX9_from_0 rfl (lv_at hl 0 rfl) ?_
  refine s_get F hW (ci := 12) (C := RX9) (T := TX9) (N := 4) (v := .ref ar) (e0) rfl in_X9 0 (by decide) q301 (fun _ h9 => h9) rfl dX9_from_1 ?_
  refine lv_iload_n F.x F.cd dX9_from_4 rfl (lv_at hl 1 rfl) ?_
  refine lv_iconst (v := (nI 1)) F.x F.cd dX9_from_5 (by decide) ?_
  refine n_zast (i := t) F hW (ea) (ba) (by omega) (by omega) (show narrow .boolean (.int (nI 1)) = .int (nI 1) by decide) dX9_from_6 (fun H locs hW => ?_)
  obtain ⟨σ1, hσ1⟩ : ∃ z, z = sset σ ar (eI g 2 8 (upd (fun x9 => bI (B x9)) t (nI 1))) := ⟨_, rfl⟩
  have hW : Hl g σ1 H locs := by rw [hσ1]; exact hW
  have w1 : σ1 ar = some (eI g 2 8 (upd (fun x9 => bI (B x9)) t (nI 1))) := by rw [hσ1]; exact sset_eq
  have f2 : σ1 (L 0) = some (.inr (1, [.ref (L 1), .ref (L 2), .int (nI (v 2)), .int (nI (v 3)), .int (nI (v 4)), .int (nI (v 5))])) := by rw [hσ1, sset_ne (sto_ne ea hWk.1 (by simp))]; exact hWk.1
  have f3 : σ1 (L 1) = some (.inr (2, [.int mcT, .ref (L 3), .int (nI (v 0))])) := by rw [hσ1, sset_ne (sto_ne ea eT (by simp))]; exact eT
  have j4 := IsList.setI (e := eI g 2 8 (upd (fun x9 => bI (B x9)) t (nI 1))) (hT) (ea)
  rw [← hσ1] at j4
  have f5 : σ1 (L 2) = some (.inr (2, [.int mcP, .ref (L 4), .int (nI (v 1))])) := by rw [hσ1, sset_ne (sto_ne ea eP (by simp))]; exact eP
  have j6 := IsList.setI (e := eI g 2 8 (upd (fun x9 => bI (B x9)) t (nI 1))) (hP) (ea)
  rw [← hσ1] at j6
  have f7 : σ1 h = some (.inr (12, [.ref ar, .int (nI s), .int c, .ref (L 0)])) := by rw [hσ1, sset_ne (sto_ne ea e0 (by simp))]; exact e0
  have hσ0 : σ1 = sset σ ar (eI g 2 8 (fun j => bI (va_up B t true j))) := by rw [hσ1, updB]
  refine lv_iconst (v := (nI 0)) F.x F.cd dX9_from_7 (by decide) ?_
  refine lv_istore_n (lv' := [(2, .int (nI 0)), (0, .ref h), (1, .int (nI t))]) F.x F.cd dX9_from_8 rfl hl (by decide) rfl (fun ls hl => ?_)
  have loop9 : ∀ (n : Nat) (k : Nat) (σk : Sto) (Bk : Nat → Bool), k + n = v 1 → (σk = sset σ ar (eI g 2 8 (fun j => bI (Bk j)))) → WI v s c B t Bk k → ∀ (H : Heap) (locs : List Loc) (ls : Array Slot), Hl g σk H locs → lv_has ls 5 [(0, .ref h), (1, .int (nI t)), (2, .int (nI k))] → W p_ l e_ ({ frames := 8, cells := 0, slots := 0, locals := 184 } : Room) s_ m_ args_ below_ meth_ c_ H locs 0 0 Q (F0 m_ 9 ls ([])) := by
    intro n
    induction n with
    | zero =>
      intro k σk Bk hkn hσk hWI H locs ls hW hl
      have hWn : IsWorks g σk L v := by rw [hσk]; exact hWk.setI ea
      have e0n : σk h = some (.inr (12, [.ref ar, .int (nI s), .int c, .ref (L 0)])) := by rw [hσk, sset_ne (sto_ne ea e0 (by simp))]; exact e0
      have ean : σk ar = some (eI g 2 8 (fun j => bI (Bk j))) := by rw [hσk, sset_eq]
      have hT_k := hWn.2.2.1
      have hP_k := hWn.2.2.2.1
      obtain ⟨mcT_k, nT_k, fT_k, eT_k, bT_k, -⟩ := id hT_k
      obtain ⟨mcP_k, nP_k, fP_k, eP_k, bP_k, -⟩ := id hP_k
      have hv0_k := hI.1
      have hv1_k := hI.2.1
      refine lv_iload_n F.x F.cd dX9_from_9 rfl (lv_at hl 2 rfl) ?_
      refine lv_aload_n F.x F.cd dX9_from_10 rfl (lv_at hl 0 rfl) ?_
      refine s_get F hW (ci := 12) (C := RX9) (T := TX9) (N := 4) (v := .ref (L 0)) (e0n) rfl in_X9 3 (by decide) q305 (fun _ h9 => h9) rfl dX9_from_11 ?_
      refine s_getN F hW (ci := 1) (C := RX2) (T := TX2) (N := 6) (v := .ref (L 2)) (hWn.1) rfl in_X2 1 (by decide) q163 (fun _ h9 => h9) rfl dX9_from_14 ?_
      refine s_callF (As := []) (rest := [.int (nI k)]) (C := RJ2) (T := TJ2) (N := 3) (n := 0) F hW (k_J2_size g l σk _ _ _ _ hP_k) (eP_k) rfl (List.mem_of_getElem? (i := 0) rfl) q323 q272 q274 q72 q276 (by decide +kernel) rfl ⟨⟨Nat.le_of_ble_eq_true rfl, Nat.le_of_ble_eq_true rfl⟩, ⟨(Nat.le_of_ble_eq_true rfl), (Nat.le_of_ble_eq_true rfl)⟩⟩ (Nat.le_of_ble_eq_true rfl) hl.1 rfl dX9_from_17 cX_no (fun r8 σ8 H locs hp8 hW => ?_)
      obtain ⟨rfl, hs8⟩ := hp8
      rw [hs8] at hW
      refine W.eq (g2 := F0 m_ 22 ls (.int (nI (v 1)) :: .int (nI k) :: [])) rfl ?_
      refine n_icmp_ge (a := k) (b := v 1) (tgt := 116) F (by omega) (by omega) dX9_from_22 (by decide) (fun c_22 => ?_) (fun c_22 => ?_)
      · subst hQ
        exact s_retv F hW (⟨rfl, Bk, hσk, WI.done hI (by rw [← show k = v 1 by omega]; exact hWI)⟩) ⟨(Nat.le_of_ble_eq_true rfl), (Nat.le_of_ble_eq_true rfl)⟩ dX9_from_116
      · exact absurd c_22 (by omega)
    | succ n ih9 =>
      intro k σk Bk hkn hσk hWI H locs ls hW hl
      have hWn : IsWorks g σk L v := by rw [hσk]; exact hWk.setI ea
      have e0n : σk h = some (.inr (12, [.ref ar, .int (nI s), .int c, .ref (L 0)])) := by rw [hσk, sset_ne (sto_ne ea e0 (by simp))]; exact e0
      have ean : σk ar = some (eI g 2 8 (fun j => bI (Bk j))) := by rw [hσk, sset_eq]
      have hT_k := hWn.2.2.1
      have hP_k := hWn.2.2.2.1
      obtain ⟨mcT_k, nT_k, fT_k, eT_k, bT_k, -⟩ := id hT_k
      obtain ⟨mcP_k, nP_k, fP_k, eP_k, bP_k, -⟩ := id hP_k
      have hv0_k := hI.1
      have hv1_k := hI.2.1
      refine lv_iload_n F.x F.cd dX9_from_9 rfl (lv_at hl 2 rfl) ?_
      refine lv_aload_n F.x F.cd dX9_from_10 rfl (lv_at hl 0 rfl) ?_
      refine s_get F hW (ci := 12) (C := RX9) (T := TX9) (N := 4) (v := .ref (L 0)) (e0n) rfl in_X9 3 (by decide) q305 (fun _ h9 => h9) rfl dX9_from_11 ?_
      refine s_getN F hW (ci := 1) (C := RX2) (T := TX2) (N := 6) (v := .ref (L 2)) (hWn.1) rfl in_X2 1 (by decide) q163 (fun _ h9 => h9) rfl dX9_from_14 ?_
      refine s_callF (As := []) (rest := [.int (nI k)]) (C := RJ2) (T := TJ2) (N := 3) (n := 0) F hW (k_J2_size g l σk _ _ _ _ hP_k) (eP_k) rfl (List.mem_of_getElem? (i := 0) rfl) q323 q272 q274 q72 q276 (by decide +kernel) rfl ⟨⟨Nat.le_of_ble_eq_true rfl, Nat.le_of_ble_eq_true rfl⟩, ⟨(Nat.le_of_ble_eq_true rfl), (Nat.le_of_ble_eq_true rfl)⟩⟩ (Nat.le_of_ble_eq_true rfl) hl.1 rfl dX9_from_17 cX_no (fun r9 σ9 H locs hp9 hW => ?_)
      obtain ⟨rfl, hs9⟩ := hp9
      rw [hs9] at hW
      refine W.eq (g2 := F0 m_ 22 ls (.int (nI (v 1)) :: .int (nI k) :: [])) rfl ?_
      refine n_icmp_ge (a := k) (b := v 1) (tgt := 116) F (by omega) (by omega) dX9_from_22 (by decide) (fun c_22 => ?_) (fun c_22 => ?_)
      · exact absurd c_22 (by omega)
      · have hpq := hI.pp (q := k) (by omega)
        refine lv_aload_n F.x F.cd dX9_from_25 rfl (lv_at hl 0 rfl) ?_
        refine s_get F hW (ci := 12) (C := RX9) (T := TX9) (N := 4) (v := .ref (L 0)) (e0n) rfl in_X9 3 (by decide) q305 (fun _ h9 => h9) rfl dX9_from_26 ?_
        refine s_getN F hW (ci := 1) (C := RX2) (T := TX2) (N := 6) (v := .ref (L 2)) (hWn.1) rfl in_X2 1 (by decide) q163 (fun _ h9 => h9) rfl dX9_from_29 ?_
        refine lv_iload_n F.x F.cd dX9_from_32 rfl (lv_at hl 2 rfl) ?_
        refine s_callF (As := [.int (nI k)]) (rest := []) (C := RJ2) (T := TJ2) (N := 3) (n := 1) F hW (k_J2_get g l σk _ _ _ _ k hP_k (by omega)) (eP_k) rfl (List.mem_of_getElem? (i := 1) rfl) q325 q328 q330 q72 q332 (by decide +kernel) rfl ⟨⟨Nat.le_of_ble_eq_true rfl, Nat.le_of_ble_eq_true rfl⟩, ⟨(Nat.le_of_ble_eq_true rfl), (Nat.le_of_ble_eq_true rfl)⟩⟩ (Nat.le_of_ble_eq_true rfl) hl.1 rfl dX9_from_33 cX_no (fun r10 σ10 H locs hp10 hW => ?_)
        obtain ⟨rfl, hs10⟩ := hp10
        rw [hs10] at hW
        refine W.eq (g2 := F0 m_ 38 ls (.ref (L (100 + k)) :: [])) rfl ?_
        refine s_cast_ F hW (C := RX5) (T := TX5) (N := 7) ((hWn.2.2.2.2.2.1 k (by omega)).1) rfl q670 dX9_from_38 ?_
        refine lv_astore_n (lv' := [(3, .ref (L (100 + k))), (0, .ref h), (1, .int (nI t)), (2, .int (nI k))]) F.x F.cd dX9_from_41 rfl hl (by decide) rfl (fun ls hl => ?_)
        refine lv_iload_n F.x F.cd dX9_from_42 rfl (lv_at hl 3 rfl) ?_
        refine lv_aload_n F.x F.cd dX9_from_43 rfl (lv_at hl 1 rfl) ?_
        refine s_get F hW (ci := 12) (C := RX9) (T := TX9) (N := 4) (v := .int c) (e0n) rfl in_X9 2 (by decide) q304 (fun _ h9 => h9) rfl dX9_from_44 ?_
        refine lv_icmp_eq (x := (nI k)) (y := c) (tgt := 72) F.x F.cd dX9_from_47 (by decide) (fun c_47 => ?_) (fun c_47 => ?_)
        · refine lv_iconst (v := (nI 0)) F.x F.cd dX9_from_72 (by decide) ?_
          refine W.eq (g2 := F0 m_ 73 ls (.int (bI (use v s c k)) :: [])) (by rw [show use v s c k = false by first | (simp [use, c_47]; done) | (simp [use, c_47]; omega)]; rfl) ?_
          refine lv_istore (lv' := [(4, .int (bI (use v s c k))), (3, .ref (L (100 + k))), (0, .ref h), (1, .int (nI t)), (2, .int (nI k))]) F.x F.cd dX9_from_73 hl (by decide) rfl (fun ls hl => ?_)
          refine lv_iload F.x F.cd dX9_from_75 (lv_at hl 0 rfl) ?_
          refine b_if_eq (b := (use v s c k)) (tgt := 110) F dX9_from_77 (by decide) (fun c_77 => ?_) (fun c_77 => ?_)
          · refine lv_iinc (k := 4) (v := (nI (k + 1))) (lv' := [(2, .int (nI (k + 1))), (4, .int (bI (use v s c k))), (3, .ref (L (100 + k))), (0, .ref h), (1, .int (nI t))]) F.x F.cd dX9_from_110 hl rfl (inc_nI k 1) (by decide) rfl (fun ls hl => ?_)
            refine lv_goto (tgt := 9) F.x F.cd dX9_from_113 (by decide) ?_
            exact ih9 (k + 1) σk Bk (by omega) (hσk) (hWI.skip (Or.inl c_77)) H locs ls hW (lv_sub hl [3, 4, 0] rfl)
          · refine lv_aload_n F.x F.cd dX9_from_80 rfl (lv_at hl 1 rfl) ?_
            refine lv_iload_n F.x F.cd dX9_from_81 rfl (lv_at hl 3 rfl) ?_
            refine s_callV (As := [.int (nI t)]) (rest := []) (C := RX5) (T := TX5) (N := 7) (n := 1) F hW (k_X5_touches g l σk (L (100 + k)) (pA v k) (pB v k) (pM v k) (pV v k) (pR v k) (pD v k) (pL v k) t ((hWn.2.2.2.2.2.1 k (by omega)).1) (by omega) (by omega) (by omega)) ((hWn.2.2.2.2.2.1 k (by omega)).1) rfl q675 q676 q677 q96 q678 rfl (by decide +kernel) rfl ⟨⟨Nat.le_of_ble_eq_true rfl, Nat.le_of_ble_eq_true rfl⟩, ⟨(Nat.le_of_ble_eq_true rfl), (Nat.le_of_ble_eq_true rfl)⟩⟩ (Nat.le_of_ble_eq_true rfl) hl.1 rfl dX9_from_82 cX_no (fun r11 σ11 H locs hp11 hW => ?_)
            obtain ⟨rfl, hs11⟩ := hp11
            rw [hs11] at hW
            refine W.eq (g2 := F0 m_ 85 ls (.int (bI (tch (pA v k) (pB v k) t)) :: [])) rfl ?_
            refine b_if_eq (b := (tch (pA v k) (pB v k) t)) (tgt := 110) F dX9_from_85 (by decide) (fun c_85 => ?_) (fun c_85 => ?_)
            · refine lv_iinc (k := 4) (v := (nI (k + 1))) (lv' := [(2, .int (nI (k + 1))), (4, .int (bI (use v s c k))), (3, .ref (L (100 + k))), (0, .ref h), (1, .int (nI t))]) F.x F.cd dX9_from_110 hl rfl (inc_nI k 1) (by decide) rfl (fun ls hl => ?_)
              refine lv_goto (tgt := 9) F.x F.cd dX9_from_113 (by decide) ?_
              exact ih9 (k + 1) σk Bk (by omega) (hσk) (hWI.skip (Or.inr (Or.inl c_85))) H locs ls hW (lv_sub hl [3, 4, 0] rfl)
            · refine lv_aload_n F.x F.cd dX9_from_88 rfl (lv_at hl 2 rfl) ?_
              refine s_get F hW (ci := 12) (C := RX9) (T := TX9) (N := 4) (v := .ref ar) (e0n) rfl in_X9 0 (by decide) q301 (fun _ h9 => h9) rfl dX9_from_89 ?_
              refine lv_aload_n F.x F.cd dX9_from_92 rfl (lv_at hl 1 rfl) ?_
              refine lv_iload_n F.x F.cd dX9_from_93 rfl (lv_at hl 3 rfl) ?_
              refine s_callV (As := [.int (nI t)]) (rest := [.ref ar]) (C := RX5) (T := TX5) (N := 7) (n := 1) F hW (k_X5_otherEnd g l σk (L (100 + k)) (pA v k) (pB v k) (pM v k) (pV v k) (pR v k) (pD v k) (pL v k) t ((hWn.2.2.2.2.2.1 k (by omega)).1) (by omega) (by omega)) ((hWn.2.2.2.2.2.1 k (by omega)).1) rfl q679 q680 q681 q96 q682 rfl (by decide +kernel) rfl ⟨⟨Nat.le_of_ble_eq_true rfl, Nat.le_of_ble_eq_true rfl⟩, ⟨(Nat.le_of_ble_eq_true rfl), (Nat.le_of_ble_eq_true rfl)⟩⟩ (Nat.le_of_ble_eq_true rfl) hl.1 rfl dX9_from_94 cX_no (fun r12 σ12 H locs hp12 hW => ?_)
              obtain ⟨rfl, hs12⟩ := hp12
              rw [hs12] at hW
              refine W.eq (g2 := F0 m_ 97 ls (.int (nI (oth (pA v k) (pB v k) t)) :: .ref ar :: [])) rfl ?_
              refine n_zald (i := oth (pA v k) (pB v k) t) (n := 8) (f := (fun x9 => bI (Bk x9))) (x := (bI (Bk (oth (pA v k) (pB v k) t)))) F hW (ean) (Nat.lt_of_lt_of_le (oth_lt hpq.1 hpq.2.1) hI.1) (by omega) (rfl) dX9_from_97 ?_
              refine b_if_ne (b := (Bk (oth (pA v k) (pB v k) t))) (tgt := 110) F dX9_from_98 (by decide) (fun c_98 => ?_) (fun c_98 => ?_)
              · refine lv_iinc (k := 4) (v := (nI (k + 1))) (lv' := [(2, .int (nI (k + 1))), (4, .int (bI (use v s c k))), (3, .ref (L (100 + k))), (0, .ref h), (1, .int (nI t))]) F.x F.cd dX9_from_110 hl rfl (inc_nI k 1) (by decide) rfl (fun ls hl => ?_)
                refine lv_goto (tgt := 9) F.x F.cd dX9_from_113 (by decide) ?_
                exact ih9 (k + 1) σk Bk (by omega) (hσk) (hWI.skip (Or.inr (Or.inr c_98))) H locs ls hW (lv_sub hl [3, 4, 0] rfl)
              · refine lv_aload_n F.x F.cd dX9_from_101 rfl (lv_at hl 2 rfl) ?_
                refine lv_aload_n F.x F.cd dX9_from_102 rfl (lv_at hl 1 rfl) ?_
                refine lv_iload_n F.x F.cd dX9_from_103 rfl (lv_at hl 3 rfl) ?_
                refine s_callV (As := [.int (nI t)]) (rest := [.ref h]) (C := RX5) (T := TX5) (N := 7) (n := 1) F hW (k_X5_otherEnd g l σk (L (100 + k)) (pA v k) (pB v k) (pM v k) (pV v k) (pR v k) (pD v k) (pL v k) t ((hWn.2.2.2.2.2.1 k (by omega)).1) (by omega) (by omega)) ((hWn.2.2.2.2.2.1 k (by omega)).1) rfl q679 q680 q681 q96 q682 rfl (by decide +kernel) rfl ⟨⟨Nat.le_of_ble_eq_true rfl, Nat.le_of_ble_eq_true rfl⟩, ⟨(Nat.le_of_ble_eq_true rfl), (Nat.le_of_ble_eq_true rfl)⟩⟩ (Nat.le_of_ble_eq_true rfl) hl.1 rfl dX9_from_104 cX_no (fun r13 σ13 H locs hp13 hW => ?_)
                obtain ⟨rfl, hs13⟩ := hp13
                rw [hs13] at hW
                refine W.eq (g2 := F0 m_ 107 ls (.int (nI (oth (pA v k) (pB v k) t)) :: .ref h :: [])) rfl ?_
                refine s_callV (As := [.int (nI (oth (pA v k) (pB v k) t))]) (rest := []) (C := RX9) (T := TX9) (N := 4) (n := 1) F hW (k_X9_from_5 g l σk L v h ar s (oth (pA v k) (pB v k) t) c Bk hWn hI e0n ean ba hs (oth_lt hpq.1 hpq.2.1) c_98 (by have := unvN_lt hWI.2.1 hR hWI.1 8 (by omega); unfold unv at hun ⊢; omega)) (e0n) rfl q683 q319 q320 q107 q321 rfl (by decide +kernel) rfl ⟨⟨Nat.le_of_ble_eq_true rfl, Nat.le_of_ble_eq_true rfl⟩, ⟨(Nat.le_of_ble_eq_true rfl), (Nat.le_of_ble_eq_true rfl)⟩⟩ (Nat.le_of_ble_eq_true rfl) hl.1 rfl dX9_from_107 cX_no (fun r14 σ14 H locs hp14 hW => ?_)
                obtain ⟨rfl, B9, hσ9, hP9⟩ := hp14
                refine W.eq (g2 := F0 m_ 110 ls ([])) rfl ?_
                refine lv_iinc (k := 4) (v := (nI (k + 1))) (lv' := [(2, .int (nI (k + 1))), (4, .int (bI (use v s c k))), (3, .ref (L (100 + k))), (0, .ref h), (1, .int (nI t))]) F.x F.cd dX9_from_110 hl rfl (inc_nI k 1) (by decide) rfl (fun ls hl => ?_)
                refine lv_goto (tgt := 9) F.x F.cd dX9_from_113 (by decide) ?_
                exact ih9 (k + 1) σ14 B9 (by omega) (by rw [hσ9, hσk, sset_sset]) (hWI.step hI (by omega) c_77 c_85 hP9) H locs ls hW (lv_sub hl [3, 4, 0] rfl)
        · refine lv_aload_n F.x F.cd dX9_from_50 rfl (lv_at hl 0 rfl) ?_
          refine s_callV (As := []) (rest := []) (C := RX5) (T := TX5) (N := 7) (n := 0) F hW (k_X5_isOpen g l σk (L (100 + k)) (pA v k) (pB v k) (pM v k) (pV v k) (pR v k) (pD v k) (pL v k) ((hWn.2.2.2.2.2.1 k (by omega)).1) (by omega) (by omega)) ((hWn.2.2.2.2.2.1 k (by omega)).1) rfl q671 q672 q673 q96 q674 rfl (by decide +kernel) rfl ⟨⟨Nat.le_of_ble_eq_true rfl, Nat.le_of_ble_eq_true rfl⟩, ⟨(Nat.le_of_ble_eq_true rfl), (Nat.le_of_ble_eq_true rfl)⟩⟩ (Nat.le_of_ble_eq_true rfl) hl.1 rfl dX9_from_51 cX_no (fun r15 σ15 H locs hp15 hW => ?_)
          obtain ⟨rfl, hs15⟩ := hp15
          rw [hs15] at hW
          refine W.eq (g2 := F0 m_ 54 ls (.int (bI (opn (pV v k) (pD v k))) :: [])) rfl ?_
          refine b_if_eq (b := (opn (pV v k) (pD v k))) (tgt := 72) F dX9_from_54 (by decide) (fun c_54 => ?_) (fun c_54 => ?_)
          · refine lv_iconst (v := (nI 0)) F.x F.cd dX9_from_72 (by decide) ?_
            refine W.eq (g2 := F0 m_ 73 ls (.int (bI (use v s c k)) :: [])) (by rw [show use v s c k = false by first | (simp [use, c_47, c_54]; done) | (simp [use, c_47, c_54]; omega)]; rfl) ?_
            refine lv_istore (lv' := [(4, .int (bI (use v s c k))), (3, .ref (L (100 + k))), (0, .ref h), (1, .int (nI t)), (2, .int (nI k))]) F.x F.cd dX9_from_73 hl (by decide) rfl (fun ls hl => ?_)
            refine lv_iload F.x F.cd dX9_from_75 (lv_at hl 0 rfl) ?_
            refine b_if_eq (b := (use v s c k)) (tgt := 110) F dX9_from_77 (by decide) (fun c_77 => ?_) (fun c_77 => ?_)
            · refine lv_iinc (k := 4) (v := (nI (k + 1))) (lv' := [(2, .int (nI (k + 1))), (4, .int (bI (use v s c k))), (3, .ref (L (100 + k))), (0, .ref h), (1, .int (nI t))]) F.x F.cd dX9_from_110 hl rfl (inc_nI k 1) (by decide) rfl (fun ls hl => ?_)
              refine lv_goto (tgt := 9) F.x F.cd dX9_from_113 (by decide) ?_
              exact ih9 (k + 1) σk Bk (by omega) (hσk) (hWI.skip (Or.inl c_77)) H locs ls hW (lv_sub hl [3, 4, 0] rfl)
            · refine lv_aload_n F.x F.cd dX9_from_80 rfl (lv_at hl 1 rfl) ?_
              refine lv_iload_n F.x F.cd dX9_from_81 rfl (lv_at hl 3 rfl) ?_
              refine s_callV (As := [.int (nI t)]) (rest := []) (C := RX5) (T := TX5) (N := 7) (n := 1) F hW (k_X5_touches g l σk (L (100 + k)) (pA v k) (pB v k) (pM v k) (pV v k) (pR v k) (pD v k) (pL v k) t ((hWn.2.2.2.2.2.1 k (by omega)).1) (by omega) (by omega) (by omega)) ((hWn.2.2.2.2.2.1 k (by omega)).1) rfl q675 q676 q677 q96 q678 rfl (by decide +kernel) rfl ⟨⟨Nat.le_of_ble_eq_true rfl, Nat.le_of_ble_eq_true rfl⟩, ⟨(Nat.le_of_ble_eq_true rfl), (Nat.le_of_ble_eq_true rfl)⟩⟩ (Nat.le_of_ble_eq_true rfl) hl.1 rfl dX9_from_82 cX_no (fun r16 σ16 H locs hp16 hW => ?_)
              obtain ⟨rfl, hs16⟩ := hp16
              rw [hs16] at hW
              refine W.eq (g2 := F0 m_ 85 ls (.int (bI (tch (pA v k) (pB v k) t)) :: [])) rfl ?_
              refine b_if_eq (b := (tch (pA v k) (pB v k) t)) (tgt := 110) F dX9_from_85 (by decide) (fun c_85 => ?_) (fun c_85 => ?_)
              · refine lv_iinc (k := 4) (v := (nI (k + 1))) (lv' := [(2, .int (nI (k + 1))), (4, .int (bI (use v s c k))), (3, .ref (L (100 + k))), (0, .ref h), (1, .int (nI t))]) F.x F.cd dX9_from_110 hl rfl (inc_nI k 1) (by decide) rfl (fun ls hl => ?_)
                refine lv_goto (tgt := 9) F.x F.cd dX9_from_113 (by decide) ?_
                exact ih9 (k + 1) σk Bk (by omega) (hσk) (hWI.skip (Or.inr (Or.inl c_85))) H locs ls hW (lv_sub hl [3, 4, 0] rfl)
              · refine lv_aload_n F.x F.cd dX9_from_88 rfl (lv_at hl 2 rfl) ?_
                refine s_get F hW (ci := 12) (C := RX9) (T := TX9) (N := 4) (v := .ref ar) (e0n) rfl in_X9 0 (by decide) q301 (fun _ h9 => h9) rfl dX9_from_89 ?_
                refine lv_aload_n F.x F.cd dX9_from_92 rfl (lv_at hl 1 rfl) ?_
                refine lv_iload_n F.x F.cd dX9_from_93 rfl (lv_at hl 3 rfl) ?_
                refine s_callV (As := [.int (nI t)]) (rest := [.ref ar]) (C := RX5) (T := TX5) (N := 7) (n := 1) F hW (k_X5_otherEnd g l σk (L (100 + k)) (pA v k) (pB v k) (pM v k) (pV v k) (pR v k) (pD v k) (pL v k) t ((hWn.2.2.2.2.2.1 k (by omega)).1) (by omega) (by omega)) ((hWn.2.2.2.2.2.1 k (by omega)).1) rfl q679 q680 q681 q96 q682 rfl (by decide +kernel) rfl ⟨⟨Nat.le_of_ble_eq_true rfl, Nat.le_of_ble_eq_true rfl⟩, ⟨(Nat.le_of_ble_eq_true rfl), (Nat.le_of_ble_eq_true rfl)⟩⟩ (Nat.le_of_ble_eq_true rfl) hl.1 rfl dX9_from_94 cX_no (fun r17 σ17 H locs hp17 hW => ?_)
                obtain ⟨rfl, hs17⟩ := hp17
                rw [hs17] at hW
                refine W.eq (g2 := F0 m_ 97 ls (.int (nI (oth (pA v k) (pB v k) t)) :: .ref ar :: [])) rfl ?_
                refine n_zald (i := oth (pA v k) (pB v k) t) (n := 8) (f := (fun x9 => bI (Bk x9))) (x := (bI (Bk (oth (pA v k) (pB v k) t)))) F hW (ean) (Nat.lt_of_lt_of_le (oth_lt hpq.1 hpq.2.1) hI.1) (by omega) (rfl) dX9_from_97 ?_
                refine b_if_ne (b := (Bk (oth (pA v k) (pB v k) t))) (tgt := 110) F dX9_from_98 (by decide) (fun c_98 => ?_) (fun c_98 => ?_)
                · refine lv_iinc (k := 4) (v := (nI (k + 1))) (lv' := [(2, .int (nI (k + 1))), (4, .int (bI (use v s c k))), (3, .ref (L (100 + k))), (0, .ref h), (1, .int (nI t))]) F.x F.cd dX9_from_110 hl rfl (inc_nI k 1) (by decide) rfl (fun ls hl => ?_)
                  refine lv_goto (tgt := 9) F.x F.cd dX9_from_113 (by decide) ?_
                  exact ih9 (k + 1) σk Bk (by omega) (hσk) (hWI.skip (Or.inr (Or.inr c_98))) H locs ls hW (lv_sub hl [3, 4, 0] rfl)
                · refine lv_aload_n F.x F.cd dX9_from_101 rfl (lv_at hl 2 rfl) ?_
                  refine lv_aload_n F.x F.cd dX9_from_102 rfl (lv_at hl 1 rfl) ?_
                  refine lv_iload_n F.x F.cd dX9_from_103 rfl (lv_at hl 3 rfl) ?_
                  refine s_callV (As := [.int (nI t)]) (rest := [.ref h]) (C := RX5) (T := TX5) (N := 7) (n := 1) F hW (k_X5_otherEnd g l σk (L (100 + k)) (pA v k) (pB v k) (pM v k) (pV v k) (pR v k) (pD v k) (pL v k) t ((hWn.2.2.2.2.2.1 k (by omega)).1) (by omega) (by omega)) ((hWn.2.2.2.2.2.1 k (by omega)).1) rfl q679 q680 q681 q96 q682 rfl (by decide +kernel) rfl ⟨⟨Nat.le_of_ble_eq_true rfl, Nat.le_of_ble_eq_true rfl⟩, ⟨(Nat.le_of_ble_eq_true rfl), (Nat.le_of_ble_eq_true rfl)⟩⟩ (Nat.le_of_ble_eq_true rfl) hl.1 rfl dX9_from_104 cX_no (fun r18 σ18 H locs hp18 hW => ?_)
                  obtain ⟨rfl, hs18⟩ := hp18
                  rw [hs18] at hW
                  refine W.eq (g2 := F0 m_ 107 ls (.int (nI (oth (pA v k) (pB v k) t)) :: .ref h :: [])) rfl ?_
                  refine s_callV (As := [.int (nI (oth (pA v k) (pB v k) t))]) (rest := []) (C := RX9) (T := TX9) (N := 4) (n := 1) F hW (k_X9_from_5 g l σk L v h ar s (oth (pA v k) (pB v k) t) c Bk hWn hI e0n ean ba hs (oth_lt hpq.1 hpq.2.1) c_98 (by have := unvN_lt hWI.2.1 hR hWI.1 8 (by omega); unfold unv at hun ⊢; omega)) (e0n) rfl q683 q319 q320 q107 q321 rfl (by decide +kernel) rfl ⟨⟨Nat.le_of_ble_eq_true rfl, Nat.le_of_ble_eq_true rfl⟩, ⟨(Nat.le_of_ble_eq_true rfl), (Nat.le_of_ble_eq_true rfl)⟩⟩ (Nat.le_of_ble_eq_true rfl) hl.1 rfl dX9_from_107 cX_no (fun r19 σ19 H locs hp19 hW => ?_)
                  obtain ⟨rfl, B9, hσ9, hP9⟩ := hp19
                  refine W.eq (g2 := F0 m_ 110 ls ([])) rfl ?_
                  refine lv_iinc (k := 4) (v := (nI (k + 1))) (lv' := [(2, .int (nI (k + 1))), (4, .int (bI (use v s c k))), (3, .ref (L (100 + k))), (0, .ref h), (1, .int (nI t))]) F.x F.cd dX9_from_110 hl rfl (inc_nI k 1) (by decide) rfl (fun ls hl => ?_)
                  refine lv_goto (tgt := 9) F.x F.cd dX9_from_113 (by decide) ?_
                  exact ih9 (k + 1) σ19 B9 (by omega) (by rw [hσ9, hσk, sset_sset]) (hWI.step hI (by omega) c_77 c_85 hP9) H locs ls hW (lv_sub hl [3, 4, 0] rfl)
          · refine lv_aload_n F.x F.cd dX9_from_57 rfl (lv_at hl 0 rfl) ?_
            refine s_getN F hW (ci := 9) (C := RX5) (T := TX5) (N := 7) (v := .int (nI (pV v k))) ((hWn.2.2.2.2.2.1 k (by omega)).1) rfl in_X5 3 (by decide) q1078 (fun _ h9 => h9) rfl dX9_from_58 ?_
            refine lv_aload_n F.x F.cd dX9_from_61 rfl (lv_at hl 1 rfl) ?_
            refine s_get F hW (ci := 12) (C := RX9) (T := TX9) (N := 4) (v := .int (nI s)) (e0n) rfl in_X9 1 (by decide) q303 (fun _ h9 => h9) rfl dX9_from_62 ?_
            refine n_icmp_lt (a := pV v k) (b := s) (tgt := 72) F (by omega) (by omega) dX9_from_65 (by decide) (fun c_65 => ?_) (fun c_65 => ?_)
            · refine lv_iconst (v := (nI 0)) F.x F.cd dX9_from_72 (by decide) ?_
              refine W.eq (g2 := F0 m_ 73 ls (.int (bI (use v s c k)) :: [])) (by rw [show use v s c k = false by first | (simp [use, c_47, c_54, c_65]; done) | (simp [use, c_47, c_54, c_65]; omega)]; rfl) ?_
              refine lv_istore (lv' := [(4, .int (bI (use v s c k))), (3, .ref (L (100 + k))), (0, .ref h), (1, .int (nI t)), (2, .int (nI k))]) F.x F.cd dX9_from_73 hl (by decide) rfl (fun ls hl => ?_)
              refine lv_iload F.x F.cd dX9_from_75 (lv_at hl 0 rfl) ?_
              refine b_if_eq (b := (use v s c k)) (tgt := 110) F dX9_from_77 (by decide) (fun c_77 => ?_) (fun c_77 => ?_)
              · refine lv_iinc (k := 4) (v := (nI (k + 1))) (lv' := [(2, .int (nI (k + 1))), (4, .int (bI (use v s c k))), (3, .ref (L (100 + k))), (0, .ref h), (1, .int (nI t))]) F.x F.cd dX9_from_110 hl rfl (inc_nI k 1) (by decide) rfl (fun ls hl => ?_)
                refine lv_goto (tgt := 9) F.x F.cd dX9_from_113 (by decide) ?_
                exact ih9 (k + 1) σk Bk (by omega) (hσk) (hWI.skip (Or.inl c_77)) H locs ls hW (lv_sub hl [3, 4, 0] rfl)
              · refine lv_aload_n F.x F.cd dX9_from_80 rfl (lv_at hl 1 rfl) ?_
                refine lv_iload_n F.x F.cd dX9_from_81 rfl (lv_at hl 3 rfl) ?_
                refine s_callV (As := [.int (nI t)]) (rest := []) (C := RX5) (T := TX5) (N := 7) (n := 1) F hW (k_X5_touches g l σk (L (100 + k)) (pA v k) (pB v k) (pM v k) (pV v k) (pR v k) (pD v k) (pL v k) t ((hWn.2.2.2.2.2.1 k (by omega)).1) (by omega) (by omega) (by omega)) ((hWn.2.2.2.2.2.1 k (by omega)).1) rfl q675 q676 q677 q96 q678 rfl (by decide +kernel) rfl ⟨⟨Nat.le_of_ble_eq_true rfl, Nat.le_of_ble_eq_true rfl⟩, ⟨(Nat.le_of_ble_eq_true rfl), (Nat.le_of_ble_eq_true rfl)⟩⟩ (Nat.le_of_ble_eq_true rfl) hl.1 rfl dX9_from_82 cX_no (fun r20 σ20 H locs hp20 hW => ?_)
                obtain ⟨rfl, hs20⟩ := hp20
                rw [hs20] at hW
                refine W.eq (g2 := F0 m_ 85 ls (.int (bI (tch (pA v k) (pB v k) t)) :: [])) rfl ?_
                refine b_if_eq (b := (tch (pA v k) (pB v k) t)) (tgt := 110) F dX9_from_85 (by decide) (fun c_85 => ?_) (fun c_85 => ?_)
                · refine lv_iinc (k := 4) (v := (nI (k + 1))) (lv' := [(2, .int (nI (k + 1))), (4, .int (bI (use v s c k))), (3, .ref (L (100 + k))), (0, .ref h), (1, .int (nI t))]) F.x F.cd dX9_from_110 hl rfl (inc_nI k 1) (by decide) rfl (fun ls hl => ?_)
                  refine lv_goto (tgt := 9) F.x F.cd dX9_from_113 (by decide) ?_
                  exact ih9 (k + 1) σk Bk (by omega) (hσk) (hWI.skip (Or.inr (Or.inl c_85))) H locs ls hW (lv_sub hl [3, 4, 0] rfl)
                · refine lv_aload_n F.x F.cd dX9_from_88 rfl (lv_at hl 2 rfl) ?_
                  refine s_get F hW (ci := 12) (C := RX9) (T := TX9) (N := 4) (v := .ref ar) (e0n) rfl in_X9 0 (by decide) q301 (fun _ h9 => h9) rfl dX9_from_89 ?_
                  refine lv_aload_n F.x F.cd dX9_from_92 rfl (lv_at hl 1 rfl) ?_
                  refine lv_iload_n F.x F.cd dX9_from_93 rfl (lv_at hl 3 rfl) ?_
                  refine s_callV (As := [.int (nI t)]) (rest := [.ref ar]) (C := RX5) (T := TX5) (N := 7) (n := 1) F hW (k_X5_otherEnd g l σk (L (100 + k)) (pA v k) (pB v k) (pM v k) (pV v k) (pR v k) (pD v k) (pL v k) t ((hWn.2.2.2.2.2.1 k (by omega)).1) (by omega) (by omega)) ((hWn.2.2.2.2.2.1 k (by omega)).1) rfl q679 q680 q681 q96 q682 rfl (by decide +kernel) rfl ⟨⟨Nat.le_of_ble_eq_true rfl, Nat.le_of_ble_eq_true rfl⟩, ⟨(Nat.le_of_ble_eq_true rfl), (Nat.le_of_ble_eq_true rfl)⟩⟩ (Nat.le_of_ble_eq_true rfl) hl.1 rfl dX9_from_94 cX_no (fun r21 σ21 H locs hp21 hW => ?_)
                  obtain ⟨rfl, hs21⟩ := hp21
                  rw [hs21] at hW
                  refine W.eq (g2 := F0 m_ 97 ls (.int (nI (oth (pA v k) (pB v k) t)) :: .ref ar :: [])) rfl ?_
                  refine n_zald (i := oth (pA v k) (pB v k) t) (n := 8) (f := (fun x9 => bI (Bk x9))) (x := (bI (Bk (oth (pA v k) (pB v k) t)))) F hW (ean) (Nat.lt_of_lt_of_le (oth_lt hpq.1 hpq.2.1) hI.1) (by omega) (rfl) dX9_from_97 ?_
                  refine b_if_ne (b := (Bk (oth (pA v k) (pB v k) t))) (tgt := 110) F dX9_from_98 (by decide) (fun c_98 => ?_) (fun c_98 => ?_)
                  · refine lv_iinc (k := 4) (v := (nI (k + 1))) (lv' := [(2, .int (nI (k + 1))), (4, .int (bI (use v s c k))), (3, .ref (L (100 + k))), (0, .ref h), (1, .int (nI t))]) F.x F.cd dX9_from_110 hl rfl (inc_nI k 1) (by decide) rfl (fun ls hl => ?_)
                    refine lv_goto (tgt := 9) F.x F.cd dX9_from_113 (by decide) ?_
                    exact ih9 (k + 1) σk Bk (by omega) (hσk) (hWI.skip (Or.inr (Or.inr c_98))) H locs ls hW (lv_sub hl [3, 4, 0] rfl)
                  · refine lv_aload_n F.x F.cd dX9_from_101 rfl (lv_at hl 2 rfl) ?_
                    refine lv_aload_n F.x F.cd dX9_from_102 rfl (lv_at hl 1 rfl) ?_
                    refine lv_iload_n F.x F.cd dX9_from_103 rfl (lv_at hl 3 rfl) ?_
                    refine s_callV (As := [.int (nI t)]) (rest := [.ref h]) (C := RX5) (T := TX5) (N := 7) (n := 1) F hW (k_X5_otherEnd g l σk (L (100 + k)) (pA v k) (pB v k) (pM v k) (pV v k) (pR v k) (pD v k) (pL v k) t ((hWn.2.2.2.2.2.1 k (by omega)).1) (by omega) (by omega)) ((hWn.2.2.2.2.2.1 k (by omega)).1) rfl q679 q680 q681 q96 q682 rfl (by decide +kernel) rfl ⟨⟨Nat.le_of_ble_eq_true rfl, Nat.le_of_ble_eq_true rfl⟩, ⟨(Nat.le_of_ble_eq_true rfl), (Nat.le_of_ble_eq_true rfl)⟩⟩ (Nat.le_of_ble_eq_true rfl) hl.1 rfl dX9_from_104 cX_no (fun r22 σ22 H locs hp22 hW => ?_)
                    obtain ⟨rfl, hs22⟩ := hp22
                    rw [hs22] at hW
                    refine W.eq (g2 := F0 m_ 107 ls (.int (nI (oth (pA v k) (pB v k) t)) :: .ref h :: [])) rfl ?_
                    refine s_callV (As := [.int (nI (oth (pA v k) (pB v k) t))]) (rest := []) (C := RX9) (T := TX9) (N := 4) (n := 1) F hW (k_X9_from_5 g l σk L v h ar s (oth (pA v k) (pB v k) t) c Bk hWn hI e0n ean ba hs (oth_lt hpq.1 hpq.2.1) c_98 (by have := unvN_lt hWI.2.1 hR hWI.1 8 (by omega); unfold unv at hun ⊢; omega)) (e0n) rfl q683 q319 q320 q107 q321 rfl (by decide +kernel) rfl ⟨⟨Nat.le_of_ble_eq_true rfl, Nat.le_of_ble_eq_true rfl⟩, ⟨(Nat.le_of_ble_eq_true rfl), (Nat.le_of_ble_eq_true rfl)⟩⟩ (Nat.le_of_ble_eq_true rfl) hl.1 rfl dX9_from_107 cX_no (fun r23 σ23 H locs hp23 hW => ?_)
                    obtain ⟨rfl, B9, hσ9, hP9⟩ := hp23
                    refine W.eq (g2 := F0 m_ 110 ls ([])) rfl ?_
                    refine lv_iinc (k := 4) (v := (nI (k + 1))) (lv' := [(2, .int (nI (k + 1))), (4, .int (bI (use v s c k))), (3, .ref (L (100 + k))), (0, .ref h), (1, .int (nI t))]) F.x F.cd dX9_from_110 hl rfl (inc_nI k 1) (by decide) rfl (fun ls hl => ?_)
                    refine lv_goto (tgt := 9) F.x F.cd dX9_from_113 (by decide) ?_
                    exact ih9 (k + 1) σ23 B9 (by omega) (by rw [hσ9, hσk, sset_sset]) (hWI.step hI (by omega) c_77 c_85 hP9) H locs ls hW (lv_sub hl [3, 4, 0] rfl)
            · refine lv_iconst (v := (nI 1)) F.x F.cd dX9_from_68 (by decide) ?_
              refine lv_goto (tgt := 73) F.x F.cd dX9_from_69 (by decide) ?_
              refine W.eq (g2 := F0 m_ 73 ls (.int (bI (use v s c k)) :: [])) (by rw [show use v s c k = true by first | (simp [use, c_47, c_54, c_65]; done) | (simp [use, c_47, c_54, c_65]; omega)]; rfl) ?_
              refine lv_istore (lv' := [(4, .int (bI (use v s c k))), (3, .ref (L (100 + k))), (0, .ref h), (1, .int (nI t)), (2, .int (nI k))]) F.x F.cd dX9_from_73 hl (by decide) rfl (fun ls hl => ?_)
              refine lv_iload F.x F.cd dX9_from_75 (lv_at hl 0 rfl) ?_
              refine b_if_eq (b := (use v s c k)) (tgt := 110) F dX9_from_77 (by decide) (fun c_77 => ?_) (fun c_77 => ?_)
              · refine lv_iinc (k := 4) (v := (nI (k + 1))) (lv' := [(2, .int (nI (k + 1))), (4, .int (bI (use v s c k))), (3, .ref (L (100 + k))), (0, .ref h), (1, .int (nI t))]) F.x F.cd dX9_from_110 hl rfl (inc_nI k 1) (by decide) rfl (fun ls hl => ?_)
                refine lv_goto (tgt := 9) F.x F.cd dX9_from_113 (by decide) ?_
                exact ih9 (k + 1) σk Bk (by omega) (hσk) (hWI.skip (Or.inl c_77)) H locs ls hW (lv_sub hl [3, 4, 0] rfl)
              · refine lv_aload_n F.x F.cd dX9_from_80 rfl (lv_at hl 1 rfl) ?_
                refine lv_iload_n F.x F.cd dX9_from_81 rfl (lv_at hl 3 rfl) ?_
                refine s_callV (As := [.int (nI t)]) (rest := []) (C := RX5) (T := TX5) (N := 7) (n := 1) F hW (k_X5_touches g l σk (L (100 + k)) (pA v k) (pB v k) (pM v k) (pV v k) (pR v k) (pD v k) (pL v k) t ((hWn.2.2.2.2.2.1 k (by omega)).1) (by omega) (by omega) (by omega)) ((hWn.2.2.2.2.2.1 k (by omega)).1) rfl q675 q676 q677 q96 q678 rfl (by decide +kernel) rfl ⟨⟨Nat.le_of_ble_eq_true rfl, Nat.le_of_ble_eq_true rfl⟩, ⟨(Nat.le_of_ble_eq_true rfl), (Nat.le_of_ble_eq_true rfl)⟩⟩ (Nat.le_of_ble_eq_true rfl) hl.1 rfl dX9_from_82 cX_no (fun r24 σ24 H locs hp24 hW => ?_)
                obtain ⟨rfl, hs24⟩ := hp24
                rw [hs24] at hW
                refine W.eq (g2 := F0 m_ 85 ls (.int (bI (tch (pA v k) (pB v k) t)) :: [])) rfl ?_
                refine b_if_eq (b := (tch (pA v k) (pB v k) t)) (tgt := 110) F dX9_from_85 (by decide) (fun c_85 => ?_) (fun c_85 => ?_)
                · refine lv_iinc (k := 4) (v := (nI (k + 1))) (lv' := [(2, .int (nI (k + 1))), (4, .int (bI (use v s c k))), (3, .ref (L (100 + k))), (0, .ref h), (1, .int (nI t))]) F.x F.cd dX9_from_110 hl rfl (inc_nI k 1) (by decide) rfl (fun ls hl => ?_)
                  refine lv_goto (tgt := 9) F.x F.cd dX9_from_113 (by decide) ?_
                  exact ih9 (k + 1) σk Bk (by omega) (hσk) (hWI.skip (Or.inr (Or.inl c_85))) H locs ls hW (lv_sub hl [3, 4, 0] rfl)
                · refine lv_aload_n F.x F.cd dX9_from_88 rfl (lv_at hl 2 rfl) ?_
                  refine s_get F hW (ci := 12) (C := RX9) (T := TX9) (N := 4) (v := .ref ar) (e0n) rfl in_X9 0 (by decide) q301 (fun _ h9 => h9) rfl dX9_from_89 ?_
                  refine lv_aload_n F.x F.cd dX9_from_92 rfl (lv_at hl 1 rfl) ?_
                  refine lv_iload_n F.x F.cd dX9_from_93 rfl (lv_at hl 3 rfl) ?_
                  refine s_callV (As := [.int (nI t)]) (rest := [.ref ar]) (C := RX5) (T := TX5) (N := 7) (n := 1) F hW (k_X5_otherEnd g l σk (L (100 + k)) (pA v k) (pB v k) (pM v k) (pV v k) (pR v k) (pD v k) (pL v k) t ((hWn.2.2.2.2.2.1 k (by omega)).1) (by omega) (by omega)) ((hWn.2.2.2.2.2.1 k (by omega)).1) rfl q679 q680 q681 q96 q682 rfl (by decide +kernel) rfl ⟨⟨Nat.le_of_ble_eq_true rfl, Nat.le_of_ble_eq_true rfl⟩, ⟨(Nat.le_of_ble_eq_true rfl), (Nat.le_of_ble_eq_true rfl)⟩⟩ (Nat.le_of_ble_eq_true rfl) hl.1 rfl dX9_from_94 cX_no (fun r25 σ25 H locs hp25 hW => ?_)
                  obtain ⟨rfl, hs25⟩ := hp25
                  rw [hs25] at hW
                  refine W.eq (g2 := F0 m_ 97 ls (.int (nI (oth (pA v k) (pB v k) t)) :: .ref ar :: [])) rfl ?_
                  refine n_zald (i := oth (pA v k) (pB v k) t) (n := 8) (f := (fun x9 => bI (Bk x9))) (x := (bI (Bk (oth (pA v k) (pB v k) t)))) F hW (ean) (Nat.lt_of_lt_of_le (oth_lt hpq.1 hpq.2.1) hI.1) (by omega) (rfl) dX9_from_97 ?_
                  refine b_if_ne (b := (Bk (oth (pA v k) (pB v k) t))) (tgt := 110) F dX9_from_98 (by decide) (fun c_98 => ?_) (fun c_98 => ?_)
                  · refine lv_iinc (k := 4) (v := (nI (k + 1))) (lv' := [(2, .int (nI (k + 1))), (4, .int (bI (use v s c k))), (3, .ref (L (100 + k))), (0, .ref h), (1, .int (nI t))]) F.x F.cd dX9_from_110 hl rfl (inc_nI k 1) (by decide) rfl (fun ls hl => ?_)
                    refine lv_goto (tgt := 9) F.x F.cd dX9_from_113 (by decide) ?_
                    exact ih9 (k + 1) σk Bk (by omega) (hσk) (hWI.skip (Or.inr (Or.inr c_98))) H locs ls hW (lv_sub hl [3, 4, 0] rfl)
                  · refine lv_aload_n F.x F.cd dX9_from_101 rfl (lv_at hl 2 rfl) ?_
                    refine lv_aload_n F.x F.cd dX9_from_102 rfl (lv_at hl 1 rfl) ?_
                    refine lv_iload_n F.x F.cd dX9_from_103 rfl (lv_at hl 3 rfl) ?_
                    refine s_callV (As := [.int (nI t)]) (rest := [.ref h]) (C := RX5) (T := TX5) (N := 7) (n := 1) F hW (k_X5_otherEnd g l σk (L (100 + k)) (pA v k) (pB v k) (pM v k) (pV v k) (pR v k) (pD v k) (pL v k) t ((hWn.2.2.2.2.2.1 k (by omega)).1) (by omega) (by omega)) ((hWn.2.2.2.2.2.1 k (by omega)).1) rfl q679 q680 q681 q96 q682 rfl (by decide +kernel) rfl ⟨⟨Nat.le_of_ble_eq_true rfl, Nat.le_of_ble_eq_true rfl⟩, ⟨(Nat.le_of_ble_eq_true rfl), (Nat.le_of_ble_eq_true rfl)⟩⟩ (Nat.le_of_ble_eq_true rfl) hl.1 rfl dX9_from_104 cX_no (fun r26 σ26 H locs hp26 hW => ?_)
                    obtain ⟨rfl, hs26⟩ := hp26
                    rw [hs26] at hW
                    refine W.eq (g2 := F0 m_ 107 ls (.int (nI (oth (pA v k) (pB v k) t)) :: .ref h :: [])) rfl ?_
                    refine s_callV (As := [.int (nI (oth (pA v k) (pB v k) t))]) (rest := []) (C := RX9) (T := TX9) (N := 4) (n := 1) F hW (k_X9_from_5 g l σk L v h ar s (oth (pA v k) (pB v k) t) c Bk hWn hI e0n ean ba hs (oth_lt hpq.1 hpq.2.1) c_98 (by have := unvN_lt hWI.2.1 hR hWI.1 8 (by omega); unfold unv at hun ⊢; omega)) (e0n) rfl q683 q319 q320 q107 q321 rfl (by decide +kernel) rfl ⟨⟨Nat.le_of_ble_eq_true rfl, Nat.le_of_ble_eq_true rfl⟩, ⟨(Nat.le_of_ble_eq_true rfl), (Nat.le_of_ble_eq_true rfl)⟩⟩ (Nat.le_of_ble_eq_true rfl) hl.1 rfl dX9_from_107 cX_no (fun r27 σ27 H locs hp27 hW => ?_)
                    obtain ⟨rfl, B9, hσ9, hP9⟩ := hp27
                    refine W.eq (g2 := F0 m_ 110 ls ([])) rfl ?_
                    refine lv_iinc (k := 4) (v := (nI (k + 1))) (lv' := [(2, .int (nI (k + 1))), (4, .int (bI (use v s c k))), (3, .ref (L (100 + k))), (0, .ref h), (1, .int (nI t))]) F.x F.cd dX9_from_110 hl rfl (inc_nI k 1) (by decide) rfl (fun ls hl => ?_)
                    refine lv_goto (tgt := 9) F.x F.cd dX9_from_113 (by decide) ?_
                    exact ih9 (k + 1) σ27 B9 (by omega) (by rw [hσ9, hσk, sset_sset]) (hWI.step hI (by omega) c_77 c_85 hP9) H locs ls hW (lv_sub hl [3, 4, 0] rfl)
  exact loop9 (v 1) 0 _ _ (by omega) (hσ0) (WI.start) H locs ls hW (lv_sub hl [1, 2, 0] rfl)
set_option maxHeartbeats 4000000 in
theorem k_X9_from_7 (g : Gh) (l : Launch) (σ : Sto) (L v : Nat → Nat) (h ar s t : Nat) (c : Int32) (B : Nat → Bool) (hWk : IsWorks g σ L v) (hI : Inv v) (e0 : σ h = some (.inr (12, [.ref ar, .int (nI s), .int c, .ref (L 0)]))) (ea : σ ar = some (eI g 2 8 (fun j => bI (B j)))) (ba : gB g ≤ ar) (hs : s < 2 ^ 30) (ht : t < v 0) (hR : B t = false) (hun : unv B ≤ 7) : Ct g l yX9_from cX9_from 5 none ({ frames := 9, cells := 0, slots := 0, locals := 208 } : Room) [.ref h, .int (nI t)] σ (fun r σ' => r = none ∧ ∃ R' : Nat → Bool, σ' = sset σ ar (eI g 2 8 (fun j => bI (R' j))) ∧ WP v s c B t R') (nox) := by
  refine Ct.body (by decide) (Nat.le_of_ble_eq_true rfl) ?_
  intro p_ e_ s_ m_ args_ below_ meth_ c_ ls H locs Q F hW hl hQ
  have hl : lv_has ls 5 [(0, .ref h), (1, .int (nI t))] := hl
  have hT := hWk.2.2.1
  have hP := hWk.2.2.2.1
  obtain ⟨mcT, nT, fT, eT, bT, -⟩ := id hT
  obtain ⟨mcP, nP, fP, eP, bP, -⟩ := id hP
  have hv0 := hI.1
  have hv1 := hI.2.1
  refine lv_aload_n F.x F.cd dX9_from_0 rfl (lv_at hl 0 rfl) ?_
  refine s_get F hW (ci := 12) (C := RX9) (T := TX9) (N := 4) (v := .ref ar) (e0) rfl in_X9 0 (by decide) q301 (fun _ h9 => h9) rfl dX9_from_1 ?_
  refine lv_iload_n F.x F.cd dX9_from_4 rfl (lv_at hl 1 rfl) ?_
  refine lv_iconst (v := (nI 1)) F.x F.cd dX9_from_5 (by decide) ?_
  refine n_zast (i := t) F hW (ea) (ba) (by omega) (by omega) (show narrow .boolean (.int (nI 1)) = .int (nI 1) by decide) dX9_from_6 (fun H locs hW => ?_)
  obtain ⟨σ1, hσ1⟩ : ∃ z, z = sset σ ar (eI g 2 8 (upd (fun x9 => bI (B x9)) t (nI 1))) := ⟨_, rfl⟩
  have hW : Hl g σ1 H locs := by rw [hσ1]; exact hW
  have w1 : σ1 ar = some (eI g 2 8 (upd (fun x9 => bI (B x9)) t (nI 1))) := by rw [hσ1]; exact sset_eq
  have f2 : σ1 (L 0) = some (.inr (1, [.ref (L 1), .ref (L 2), .int (nI (v 2)), .int (nI (v 3)), .int (nI (v 4)), .int (nI (v 5))])) := by rw [hσ1, sset_ne (sto_ne ea hWk.1 (by simp))]; exact hWk.1
  have f3 : σ1 (L 1) = some (.inr (2, [.int mcT, .ref (L 3), .int (nI (v 0))])) := by rw [hσ1, sset_ne (sto_ne ea eT (by simp))]; exact eT
  have j4 := IsList.setI (e := eI g 2 8 (upd (fun x9 => bI (B x9)) t (nI 1))) (hT) (ea)
  rw [← hσ1] at j4
  have f5 : σ1 (L 2) = some (.inr (2, [.int mcP, .ref (L 4), .int (nI (v 1))])) := by rw [hσ1, sset_ne (sto_ne ea eP (by simp))]; exact eP
  have j6 := IsList.setI (e := eI g 2 8 (upd (fun x9 => bI (B x9)) t (nI 1))) (hP) (ea)
  rw [← hσ1] at j6
  have f7 : σ1 h = some (.inr (12, [.ref ar, .int (nI s), .int c, .ref (L 0)])) := by rw [hσ1, sset_ne (sto_ne ea e0 (by simp))]; exact e0
  have hσ0 : σ1 = sset σ ar (eI g 2 8 (fun j => bI (va_up B t true j))) := by rw [hσ1, updB]
  refine lv_iconst (v := (nI 0)) F.x F.cd dX9_from_7 (by decide) ?_
  refine lv_istore_n (lv' := [(2, .int (nI 0)), (0, .ref h), (1, .int (nI t))]) F.x F.cd dX9_from_8 rfl hl (by decide) rfl (fun ls hl => ?_)
  have loop9 : ∀ (n : Nat) (k : Nat) (σk : Sto) (Bk : Nat → Bool), k + n = v 1 → (σk = sset σ ar (eI g 2 8 (fun j => bI (Bk j)))) → WI v s c B t Bk k → ∀ (H : Heap) (locs : List Loc) (ls : Array Slot), Hl g σk H locs → lv_has ls 5 [(0, .ref h), (1, .int (nI t)), (2, .int (nI k))] → W p_ l e_ ({ frames := 9, cells := 0, slots := 0, locals := 208 } : Room) s_ m_ args_ below_ meth_ c_ H locs 0 0 Q (F0 m_ 9 ls ([])) := by
    intro n
    induction n with
    | zero =>
      intro k σk Bk hkn hσk hWI H locs ls hW hl
      have hWn : IsWorks g σk L v := by rw [hσk]; exact hWk.setI ea
      have e0n : σk h = some (.inr (12, [.ref ar, .int (nI s), .int c, .ref (L 0)])) := by rw [hσk, sset_ne (sto_ne ea e0 (by simp))]; exact e0
      have ean : σk ar = some (eI g 2 8 (fun j => bI (Bk j))) := by rw [hσk, sset_eq]
      have hT_k := hWn.2.2.1
      have hP_k := hWn.2.2.2.1
      obtain ⟨mcT_k, nT_k, fT_k, eT_k, bT_k, -⟩ := id hT_k
      obtain ⟨mcP_k, nP_k, fP_k, eP_k, bP_k, -⟩ := id hP_k
      have hv0_k := hI.1
      have hv1_k := hI.2.1
      refine lv_iload_n F.x F.cd dX9_from_9 rfl (lv_at hl 2 rfl) ?_
      refine lv_aload_n F.x F.cd dX9_from_10 rfl (lv_at hl 0 rfl) ?_
      refine s_get F hW (ci := 12) (C := RX9) (T := TX9) (N := 4) (v := .ref (L 0)) (e0n) rfl in_X9 3 (by decide) q305 (fun _ h9 => h9) rfl dX9_from_11 ?_
      refine s_getN F hW (ci := 1) (C := RX2) (T := TX2) (N := 6) (v := .ref (L 2)) (hWn.1) rfl in_X2 1 (by decide) q163 (fun _ h9 => h9) rfl dX9_from_14 ?_
      refine s_callF (As := []) (rest := [.int (nI k)]) (C := RJ2) (T := TJ2) (N := 3) (n := 0) F hW (k_J2_size g l σk _ _ _ _ hP_k) (eP_k) rfl (List.mem_of_getElem? (i := 0) rfl) q323 q272 q274 q72 q276 (by decide +kernel) rfl ⟨⟨Nat.le_of_ble_eq_true rfl, Nat.le_of_ble_eq_true rfl⟩, ⟨(Nat.le_of_ble_eq_true rfl), (Nat.le_of_ble_eq_true rfl)⟩⟩ (Nat.le_of_ble_eq_true rfl) hl.1 rfl dX9_from_17 cX_no (fun r8 σ8 H locs hp8 hW => ?_)
      obtain ⟨rfl, hs8⟩ := hp8
      rw [hs8] at hW
      refine W.eq (g2 := F0 m_ 22 ls (.int (nI (v 1)) :: .int (nI k) :: [])) rfl ?_
      refine n_icmp_ge (a := k) (b := v 1) (tgt := 116) F (by omega) (by omega) dX9_from_22 (by decide) (fun c_22 => ?_) (fun c_22 => ?_)
      · subst hQ
        exact s_retv F hW (⟨rfl, Bk, hσk, WI.done hI (by rw [← show k = v 1 by omega]; exact hWI)⟩) ⟨(Nat.le_of_ble_eq_true rfl), (Nat.le_of_ble_eq_true rfl)⟩ dX9_from_116
      · exact absurd c_22 (by omega)
    | succ n ih9 =>
      intro k σk Bk hkn hσk hWI H locs ls hW hl
      have hWn : IsWorks g σk L v := by rw [hσk]; exact hWk.setI ea
      have e0n : σk h = some (.inr (12, [.ref ar, .int (nI s), .int c, .ref (L 0)])) := by rw [hσk, sset_ne (sto_ne ea e0 (by simp))]; exact e0
      have ean : σk ar = some (eI g 2 8 (fun j => bI (Bk j))) := by rw [hσk, sset_eq]
      have hT_k := hWn.2.2.1
      have hP_k := hWn.2.2.2.1
      obtain ⟨mcT_k, nT_k, fT_k, eT_k, bT_k, -⟩ := id hT_k
      obtain ⟨mcP_k, nP_k, fP_k, eP_k, bP_k, -⟩ := id hP_k
      have hv0_k := hI.1
      have hv1_k := hI.2.1
      refine lv_iload_n F.x F.cd dX9_from_9 rfl (lv_at hl 2 rfl) ?_
      refine lv_aload_n F.x F.cd dX9_from_10 rfl (lv_at hl 0 rfl) ?_
      refine s_get F hW (ci := 12) (C := RX9) (T := TX9) (N := 4) (v := .ref (L 0)) (e0n) rfl in_X9 3 (by decide) q305 (fun _ h9 => h9) rfl dX9_from_11 ?_
      refine s_getN F hW (ci := 1) (C := RX2) (T := TX2) (N := 6) (v := .ref (L 2)) (hWn.1) rfl in_X2 1 (by decide) q163 (fun _ h9 => h9) rfl dX9_from_14 ?_
      refine s_callF (As := []) (rest := [.int (nI k)]) (C := RJ2) (T := TJ2) (N := 3) (n := 0) F hW (k_J2_size g l σk _ _ _ _ hP_k) (eP_k) rfl (List.mem_of_getElem? (i := 0) rfl) q323 q272 q274 q72 q276 (by decide +kernel) rfl ⟨⟨Nat.le_of_ble_eq_true rfl, Nat.le_of_ble_eq_true rfl⟩, ⟨(Nat.le_of_ble_eq_true rfl), (Nat.le_of_ble_eq_true rfl)⟩⟩ (Nat.le_of_ble_eq_true rfl) hl.1 rfl dX9_from_17 cX_no (fun r9 σ9 H locs hp9 hW => ?_)
      obtain ⟨rfl, hs9⟩ := hp9
      rw [hs9] at hW
      refine W.eq (g2 := F0 m_ 22 ls (.int (nI (v 1)) :: .int (nI k) :: [])) rfl ?_
      refine n_icmp_ge (a := k) (b := v 1) (tgt := 116) F (by omega) (by omega) dX9_from_22 (by decide) (fun c_22 => ?_) (fun c_22 => ?_)
      · exact absurd c_22 (by omega)
      · have hpq := hI.pp (q := k) (by omega)
        refine lv_aload_n F.x F.cd dX9_from_25 rfl (lv_at hl 0 rfl) ?_
        refine s_get F hW (ci := 12) (C := RX9) (T := TX9) (N := 4) (v := .ref (L 0)) (e0n) rfl in_X9 3 (by decide) q305 (fun _ h9 => h9) rfl dX9_from_26 ?_
        refine s_getN F hW (ci := 1) (C := RX2) (T := TX2) (N := 6) (v := .ref (L 2)) (hWn.1) rfl in_X2 1 (by decide) q163 (fun _ h9 => h9) rfl dX9_from_29 ?_
        refine lv_iload_n F.x F.cd dX9_from_32 rfl (lv_at hl 2 rfl) ?_
        refine s_callF (As := [.int (nI k)]) (rest := []) (C := RJ2) (T := TJ2) (N := 3) (n := 1) F hW (k_J2_get g l σk _ _ _ _ k hP_k (by omega)) (eP_k) rfl (List.mem_of_getElem? (i := 1) rfl) q325 q328 q330 q72 q332 (by decide +kernel) rfl ⟨⟨Nat.le_of_ble_eq_true rfl, Nat.le_of_ble_eq_true rfl⟩, ⟨(Nat.le_of_ble_eq_true rfl), (Nat.le_of_ble_eq_true rfl)⟩⟩ (Nat.le_of_ble_eq_true rfl) hl.1 rfl dX9_from_33 cX_no (fun r10 σ10 H locs hp10 hW => ?_)
        obtain ⟨rfl, hs10⟩ := hp10
        rw [hs10] at hW
        refine W.eq (g2 := F0 m_ 38 ls (.ref (L (100 + k)) :: [])) rfl ?_
        refine s_cast_ F hW (C := RX5) (T := TX5) (N := 7) ((hWn.2.2.2.2.2.1 k (by omega)).1) rfl q670 dX9_from_38 ?_
        refine lv_astore_n (lv' := [(3, .ref (L (100 + k))), (0, .ref h), (1, .int (nI t)), (2, .int (nI k))]) F.x F.cd dX9_from_41 rfl hl (by decide) rfl (fun ls hl => ?_)
        refine lv_iload_n F.x F.cd dX9_from_42 rfl (lv_at hl 3 rfl) ?_
        refine lv_aload_n F.x F.cd dX9_from_43 rfl (lv_at hl 1 rfl) ?_
        refine s_get F hW (ci := 12) (C := RX9) (T := TX9) (N := 4) (v := .int c) (e0n) rfl in_X9 2 (by decide) q304 (fun _ h9 => h9) rfl dX9_from_44 ?_
        refine lv_icmp_eq (x := (nI k)) (y := c) (tgt := 72) F.x F.cd dX9_from_47 (by decide) (fun c_47 => ?_) (fun c_47 => ?_)
        · refine lv_iconst (v := (nI 0)) F.x F.cd dX9_from_72 (by decide) ?_
          refine W.eq (g2 := F0 m_ 73 ls (.int (bI (use v s c k)) :: [])) (by rw [show use v s c k = false by first | (simp [use, c_47]; done) | (simp [use, c_47]; omega)]; rfl) ?_
          refine lv_istore (lv' := [(4, .int (bI (use v s c k))), (3, .ref (L (100 + k))), (0, .ref h), (1, .int (nI t)), (2, .int (nI k))]) F.x F.cd dX9_from_73 hl (by decide) rfl (fun ls hl => ?_)
          refine lv_iload F.x F.cd dX9_from_75 (lv_at hl 0 rfl) ?_
          refine b_if_eq (b := (use v s c k)) (tgt := 110) F dX9_from_77 (by decide) (fun c_77 => ?_) (fun c_77 => ?_)
          · refine lv_iinc (k := 4) (v := (nI (k + 1))) (lv' := [(2, .int (nI (k + 1))), (4, .int (bI (use v s c k))), (3, .ref (L (100 + k))), (0, .ref h), (1, .int (nI t))]) F.x F.cd dX9_from_110 hl rfl (inc_nI k 1) (by decide) rfl (fun ls hl => ?_)
            refine lv_goto (tgt := 9) F.x F.cd dX9_from_113 (by decide) ?_
            exact ih9 (k + 1) σk Bk (by omega) (hσk) (hWI.skip (Or.inl c_77)) H locs ls hW (lv_sub hl [3, 4, 0] rfl)
          · refine lv_aload_n F.x F.cd dX9_from_80 rfl (lv_at hl 1 rfl) ?_
            refine lv_iload_n F.x F.cd dX9_from_81 rfl (lv_at hl 3 rfl) ?_
            refine s_callV (As := [.int (nI t)]) (rest := []) (C := RX5) (T := TX5) (N := 7) (n := 1) F hW (k_X5_touches g l σk (L (100 + k)) (pA v k) (pB v k) (pM v k) (pV v k) (pR v k) (pD v k) (pL v k) t ((hWn.2.2.2.2.2.1 k (by omega)).1) (by omega) (by omega) (by omega)) ((hWn.2.2.2.2.2.1 k (by omega)).1) rfl q675 q676 q677 q96 q678 rfl (by decide +kernel) rfl ⟨⟨Nat.le_of_ble_eq_true rfl, Nat.le_of_ble_eq_true rfl⟩, ⟨(Nat.le_of_ble_eq_true rfl), (Nat.le_of_ble_eq_true rfl)⟩⟩ (Nat.le_of_ble_eq_true rfl) hl.1 rfl dX9_from_82 cX_no (fun r11 σ11 H locs hp11 hW => ?_)
            obtain ⟨rfl, hs11⟩ := hp11
            rw [hs11] at hW
            refine W.eq (g2 := F0 m_ 85 ls (.int (bI (tch (pA v k) (pB v k) t)) :: [])) rfl ?_
            refine b_if_eq (b := (tch (pA v k) (pB v k) t)) (tgt := 110) F dX9_from_85 (by decide) (fun c_85 => ?_) (fun c_85 => ?_)
            · refine lv_iinc (k := 4) (v := (nI (k + 1))) (lv' := [(2, .int (nI (k + 1))), (4, .int (bI (use v s c k))), (3, .ref (L (100 + k))), (0, .ref h), (1, .int (nI t))]) F.x F.cd dX9_from_110 hl rfl (inc_nI k 1) (by decide) rfl (fun ls hl => ?_)
              refine lv_goto (tgt := 9) F.x F.cd dX9_from_113 (by decide) ?_
              exact ih9 (k + 1) σk Bk (by omega) (hσk) (hWI.skip (Or.inr (Or.inl c_85))) H locs ls hW (lv_sub hl [3, 4, 0] rfl)
            · refine lv_aload_n F.x F.cd dX9_from_88 rfl (lv_at hl 2 rfl) ?_
              refine s_get F hW (ci := 12) (C := RX9) (T := TX9) (N := 4) (v := .ref ar) (e0n) rfl in_X9 0 (by decide) q301 (fun _ h9 => h9) rfl dX9_from_89 ?_
              refine lv_aload_n F.x F.cd dX9_from_92 rfl (lv_at hl 1 rfl) ?_
              refine lv_iload_n F.x F.cd dX9_from_93 rfl (lv_at hl 3 rfl) ?_
              refine s_callV (As := [.int (nI t)]) (rest := [.ref ar]) (C := RX5) (T := TX5) (N := 7) (n := 1) F hW (k_X5_otherEnd g l σk (L (100 + k)) (pA v k) (pB v k) (pM v k) (pV v k) (pR v k) (pD v k) (pL v k) t ((hWn.2.2.2.2.2.1 k (by omega)).1) (by omega) (by omega)) ((hWn.2.2.2.2.2.1 k (by omega)).1) rfl q679 q680 q681 q96 q682 rfl (by decide +kernel) rfl ⟨⟨Nat.le_of_ble_eq_true rfl, Nat.le_of_ble_eq_true rfl⟩, ⟨(Nat.le_of_ble_eq_true rfl), (Nat.le_of_ble_eq_true rfl)⟩⟩ (Nat.le_of_ble_eq_true rfl) hl.1 rfl dX9_from_94 cX_no (fun r12 σ12 H locs hp12 hW => ?_)
              obtain ⟨rfl, hs12⟩ := hp12
              rw [hs12] at hW
              refine W.eq (g2 := F0 m_ 97 ls (.int (nI (oth (pA v k) (pB v k) t)) :: .ref ar :: [])) rfl ?_
              refine n_zald (i := oth (pA v k) (pB v k) t) (n := 8) (f := (fun x9 => bI (Bk x9))) (x := (bI (Bk (oth (pA v k) (pB v k) t)))) F hW (ean) (Nat.lt_of_lt_of_le (oth_lt hpq.1 hpq.2.1) hI.1) (by omega) (rfl) dX9_from_97 ?_
              refine b_if_ne (b := (Bk (oth (pA v k) (pB v k) t))) (tgt := 110) F dX9_from_98 (by decide) (fun c_98 => ?_) (fun c_98 => ?_)
              · refine lv_iinc (k := 4) (v := (nI (k + 1))) (lv' := [(2, .int (nI (k + 1))), (4, .int (bI (use v s c k))), (3, .ref (L (100 + k))), (0, .ref h), (1, .int (nI t))]) F.x F.cd dX9_from_110 hl rfl (inc_nI k 1) (by decide) rfl (fun ls hl => ?_)
                refine lv_goto (tgt := 9) F.x F.cd dX9_from_113 (by decide) ?_
                exact ih9 (k + 1) σk Bk (by omega) (hσk) (hWI.skip (Or.inr (Or.inr c_98))) H locs ls hW (lv_sub hl [3, 4, 0] rfl)
              · refine lv_aload_n F.x F.cd dX9_from_101 rfl (lv_at hl 2 rfl) ?_
                refine lv_aload_n F.x F.cd dX9_from_102 rfl (lv_at hl 1 rfl) ?_
                refine lv_iload_n F.x F.cd dX9_from_103 rfl (lv_at hl 3 rfl) ?_
                refine s_callV (As := [.int (nI t)]) (rest := [.ref h]) (C := RX5) (T := TX5) (N := 7) (n := 1) F hW (k_X5_otherEnd g l σk (L (100 + k)) (pA v k) (pB v k) (pM v k) (pV v k) (pR v k) (pD v k) (pL v k) t ((hWn.2.2.2.2.2.1 k (by omega)).1) (by omega) (by omega)) ((hWn.2.2.2.2.2.1 k (by omega)).1) rfl q679 q680 q681 q96 q682 rfl (by decide +kernel) rfl ⟨⟨Nat.le_of_ble_eq_true rfl, Nat.le_of_ble_eq_true rfl⟩, ⟨(Nat.le_of_ble_eq_true rfl), (Nat.le_of_ble_eq_true rfl)⟩⟩ (Nat.le_of_ble_eq_true rfl) hl.1 rfl dX9_from_104 cX_no (fun r13 σ13 H locs hp13 hW => ?_)
                obtain ⟨rfl, hs13⟩ := hp13
                rw [hs13] at hW
                refine W.eq (g2 := F0 m_ 107 ls (.int (nI (oth (pA v k) (pB v k) t)) :: .ref h :: [])) rfl ?_
                refine s_callV (As := [.int (nI (oth (pA v k) (pB v k) t))]) (rest := []) (C := RX9) (T := TX9) (N := 4) (n := 1) F hW (k_X9_from_6 g l σk L v h ar s (oth (pA v k) (pB v k) t) c Bk hWn hI e0n ean ba hs (oth_lt hpq.1 hpq.2.1) c_98 (by have := unvN_lt hWI.2.1 hR hWI.1 8 (by omega); unfold unv at hun ⊢; omega)) (e0n) rfl q683 q319 q320 q107 q321 rfl (by decide +kernel) rfl ⟨⟨Nat.le_of_ble_eq_true rfl, Nat.le_of_ble_eq_true rfl⟩, ⟨(Nat.le_of_ble_eq_true rfl), (Nat.le_of_ble_eq_true rfl)⟩⟩ (Nat.le_of_ble_eq_true rfl) hl.1 rfl dX9_from_107 cX_no (fun r14 σ14 H locs hp14 hW => ?_)
                obtain ⟨rfl, B9, hσ9, hP9⟩ := hp14
                refine W.eq (g2 := F0 m_ 110 ls ([])) rfl ?_
                refine lv_iinc (k := 4) (v := (nI (k + 1))) (lv' := [(2, .int (nI (k + 1))), (4, .int (bI (use v s c k))), (3, .ref (L (100 + k))), (0, .ref h), (1, .int (nI t))]) F.x F.cd dX9_from_110 hl rfl (inc_nI k 1) (by decide) rfl (fun ls hl => ?_)
                refine lv_goto (tgt := 9) F.x F.cd dX9_from_113 (by decide) ?_
                exact ih9 (k + 1) σ14 B9 (by omega) (by rw [hσ9, hσk, sset_sset]) (hWI.step hI (by omega) c_77 c_85 hP9) H locs ls hW (lv_sub hl [3, 4, 0] rfl)
        · refine lv_aload_n F.x F.cd dX9_from_50 rfl (lv_at hl 0 rfl) ?_
          refine s_callV (As := []) (rest := []) (C := RX5) (T := TX5) (N := 7) (n := 0) F hW (k_X5_isOpen g l σk (L (100 + k)) (pA v k) (pB v k) (pM v k) (pV v k) (pR v k) (pD v k) (pL v k) ((hWn.2.2.2.2.2.1 k (by omega)).1) (by omega) (by omega)) ((hWn.2.2.2.2.2.1 k (by omega)).1) rfl q671 q672 q673 q96 q674 rfl (by decide +kernel) rfl ⟨⟨Nat.le_of_ble_eq_true rfl, Nat.le_of_ble_eq_true rfl⟩, ⟨(Nat.le_of_ble_eq_true rfl), (Nat.le_of_ble_eq_true rfl)⟩⟩ (Nat.le_of_ble_eq_true rfl) hl.1 rfl dX9_from_51 cX_no (fun r15 σ15 H locs hp15 hW => ?_)
          obtain ⟨rfl, hs15⟩ := hp15
          rw [hs15] at hW
          refine W.eq (g2 := F0 m_ 54 ls (.int (bI (opn (pV v k) (pD v k))) :: [])) rfl ?_
          refine b_if_eq (b := (opn (pV v k) (pD v k))) (tgt := 72) F dX9_from_54 (by decide) (fun c_54 => ?_) (fun c_54 => ?_)
          · refine lv_iconst (v := (nI 0)) F.x F.cd dX9_from_72 (by decide) ?_
            refine W.eq (g2 := F0 m_ 73 ls (.int (bI (use v s c k)) :: [])) (by rw [show use v s c k = false by first | (simp [use, c_47, c_54]; done) | (simp [use, c_47, c_54]; omega)]; rfl) ?_
            refine lv_istore (lv' := [(4, .int (bI (use v s c k))), (3, .ref (L (100 + k))), (0, .ref h), (1, .int (nI t)), (2, .int (nI k))]) F.x F.cd dX9_from_73 hl (by decide) rfl (fun ls hl => ?_)
            refine lv_iload F.x F.cd dX9_from_75 (lv_at hl 0 rfl) ?_
            refine b_if_eq (b := (use v s c k)) (tgt := 110) F dX9_from_77 (by decide) (fun c_77 => ?_) (fun c_77 => ?_)
            · refine lv_iinc (k := 4) (v := (nI (k + 1))) (lv' := [(2, .int (nI (k + 1))), (4, .int (bI (use v s c k))), (3, .ref (L (100 + k))), (0, .ref h), (1, .int (nI t))]) F.x F.cd dX9_from_110 hl rfl (inc_nI k 1) (by decide) rfl (fun ls hl => ?_)
              refine lv_goto (tgt := 9) F.x F.cd dX9_from_113 (by decide) ?_
              exact ih9 (k + 1) σk Bk (by omega) (hσk) (hWI.skip (Or.inl c_77)) H locs ls hW (lv_sub hl [3, 4, 0] rfl)
            · refine lv_aload_n F.x F.cd dX9_from_80 rfl (lv_at hl 1 rfl) ?_
              refine lv_iload_n F.x F.cd dX9_from_81 rfl (lv_at hl 3 rfl) ?_
              refine s_callV (As := [.int (nI t)]) (rest := []) (C := RX5) (T := TX5) (N := 7) (n := 1) F hW (k_X5_touches g l σk (L (100 + k)) (pA v k) (pB v k) (pM v k) (pV v k) (pR v k) (pD v k) (pL v k) t ((hWn.2.2.2.2.2.1 k (by omega)).1) (by omega) (by omega) (by omega)) ((hWn.2.2.2.2.2.1 k (by omega)).1) rfl q675 q676 q677 q96 q678 rfl (by decide +kernel) rfl ⟨⟨Nat.le_of_ble_eq_true rfl, Nat.le_of_ble_eq_true rfl⟩, ⟨(Nat.le_of_ble_eq_true rfl), (Nat.le_of_ble_eq_true rfl)⟩⟩ (Nat.le_of_ble_eq_true rfl) hl.1 rfl dX9_from_82 cX_no (fun r16 σ16 H locs hp16 hW => ?_)
              obtain ⟨rfl, hs16⟩ := hp16
              rw [hs16] at hW
              refine W.eq (g2 := F0 m_ 85 ls (.int (bI (tch (pA v k) (pB v k) t)) :: [])) rfl ?_
              refine b_if_eq (b := (tch (pA v k) (pB v k) t)) (tgt := 110) F dX9_from_85 (by decide) (fun c_85 => ?_) (fun c_85 => ?_)
              · refine lv_iinc (k := 4) (v := (nI (k + 1))) (lv' := [(2, .int (nI (k + 1))), (4, .int (bI (use v s c k))), (3, .ref (L (100 + k))), (0, .ref h), (1, .int (nI t))]) F.x F.cd dX9_from_110 hl rfl (inc_nI k 1) (by decide) rfl (fun ls hl => ?_)
                refine lv_goto (tgt := 9) F.x F.cd dX9_from_113 (by decide) ?_
                exact ih9 (k + 1) σk Bk (by omega) (hσk) (hWI.skip (Or.inr (Or.inl c_85))) H locs ls hW (lv_sub hl [3, 4, 0] rfl)
              · refine lv_aload_n F.x F.cd dX9_from_88 rfl (lv_at hl 2 rfl) ?_
                refine s_get F hW (ci := 12) (C := RX9) (T := TX9) (N := 4) (v := .ref ar) (e0n) rfl in_X9 0 (by decide) q301 (fun _ h9 => h9) rfl dX9_from_89 ?_
                refine lv_aload_n F.x F.cd dX9_from_92 rfl (lv_at hl 1 rfl) ?_
                refine lv_iload_n F.x F.cd dX9_from_93 rfl (lv_at hl 3 rfl) ?_
                refine s_callV (As := [.int (nI t)]) (rest := [.ref ar]) (C := RX5) (T := TX5) (N := 7) (n := 1) F hW (k_X5_otherEnd g l σk (L (100 + k)) (pA v k) (pB v k) (pM v k) (pV v k) (pR v k) (pD v k) (pL v k) t ((hWn.2.2.2.2.2.1 k (by omega)).1) (by omega) (by omega)) ((hWn.2.2.2.2.2.1 k (by omega)).1) rfl q679 q680 q681 q96 q682 rfl (by decide +kernel) rfl ⟨⟨Nat.le_of_ble_eq_true rfl, Nat.le_of_ble_eq_true rfl⟩, ⟨(Nat.le_of_ble_eq_true rfl), (Nat.le_of_ble_eq_true rfl)⟩⟩ (Nat.le_of_ble_eq_true rfl) hl.1 rfl dX9_from_94 cX_no (fun r17 σ17 H locs hp17 hW => ?_)
                obtain ⟨rfl, hs17⟩ := hp17
                rw [hs17] at hW
                refine W.eq (g2 := F0 m_ 97 ls (.int (nI (oth (pA v k) (pB v k) t)) :: .ref ar :: [])) rfl ?_
                refine n_zald (i := oth (pA v k) (pB v k) t) (n := 8) (f := (fun x9 => bI (Bk x9))) (x := (bI (Bk (oth (pA v k) (pB v k) t)))) F hW (ean) (Nat.lt_of_lt_of_le (oth_lt hpq.1 hpq.2.1) hI.1) (by omega) (rfl) dX9_from_97 ?_
                refine b_if_ne (b := (Bk (oth (pA v k) (pB v k) t))) (tgt := 110) F dX9_from_98 (by decide) (fun c_98 => ?_) (fun c_98 => ?_)
                · refine lv_iinc (k := 4) (v := (nI (k + 1))) (lv' := [(2, .int (nI (k + 1))), (4, .int (bI (use v s c k))), (3, .ref (L (100 + k))), (0, .ref h), (1, .int (nI t))]) F.x F.cd dX9_from_110 hl rfl (inc_nI k 1) (by decide) rfl (fun ls hl => ?_)
                  refine lv_goto (tgt := 9) F.x F.cd dX9_from_113 (by decide) ?_
                  exact ih9 (k + 1) σk Bk (by omega) (hσk) (hWI.skip (Or.inr (Or.inr c_98))) H locs ls hW (lv_sub hl [3, 4, 0] rfl)
                · refine lv_aload_n F.x F.cd dX9_from_101 rfl (lv_at hl 2 rfl) ?_
                  refine lv_aload_n F.x F.cd dX9_from_102 rfl (lv_at hl 1 rfl) ?_
                  refine lv_iload_n F.x F.cd dX9_from_103 rfl (lv_at hl 3 rfl) ?_
                  refine s_callV (As := [.int (nI t)]) (rest := [.ref h]) (C := RX5) (T := TX5) (N := 7) (n := 1) F hW (k_X5_otherEnd g l σk (L (100 + k)) (pA v k) (pB v k) (pM v k) (pV v k) (pR v k) (pD v k) (pL v k) t ((hWn.2.2.2.2.2.1 k (by omega)).1) (by omega) (by omega)) ((hWn.2.2.2.2.2.1 k (by omega)).1) rfl q679 q680 q681 q96 q682 rfl (by decide +kernel) rfl ⟨⟨Nat.le_of_ble_eq_true rfl, Nat.le_of_ble_eq_true rfl⟩, ⟨(Nat.le_of_ble_eq_true rfl), (Nat.le_of_ble_eq_true rfl)⟩⟩ (Nat.le_of_ble_eq_true rfl) hl.1 rfl dX9_from_104 cX_no (fun r18 σ18 H locs hp18 hW => ?_)
                  obtain ⟨rfl, hs18⟩ := hp18
                  rw [hs18] at hW
                  refine W.eq (g2 := F0 m_ 107 ls (.int (nI (oth (pA v k) (pB v k) t)) :: .ref h :: [])) rfl ?_
                  refine s_callV (As := [.int (nI (oth (pA v k) (pB v k) t))]) (rest := []) (C := RX9) (T := TX9) (N := 4) (n := 1) F hW (k_X9_from_6 g l σk L v h ar s (oth (pA v k) (pB v k) t) c Bk hWn hI e0n ean ba hs (oth_lt hpq.1 hpq.2.1) c_98 (by have := unvN_lt hWI.2.1 hR hWI.1 8 (by omega); unfold unv at hun ⊢; omega)) (e0n) rfl q683 q319 q320 q107 q321 rfl (by decide +kernel) rfl ⟨⟨Nat.le_of_ble_eq_true rfl, Nat.le_of_ble_eq_true rfl⟩, ⟨(Nat.le_of_ble_eq_true rfl), (Nat.le_of_ble_eq_true rfl)⟩⟩ (Nat.le_of_ble_eq_true rfl) hl.1 rfl dX9_from_107 cX_no (fun r19 σ19 H locs hp19 hW => ?_)
                  obtain ⟨rfl, B9, hσ9, hP9⟩ := hp19
                  refine W.eq (g2 := F0 m_ 110 ls ([])) rfl ?_
                  refine lv_iinc (k := 4) (v := (nI (k + 1))) (lv' := [(2, .int (nI (k + 1))), (4, .int (bI (use v s c k))), (3, .ref (L (100 + k))), (0, .ref h), (1, .int (nI t))]) F.x F.cd dX9_from_110 hl rfl (inc_nI k 1) (by decide) rfl (fun ls hl => ?_)
                  refine lv_goto (tgt := 9) F.x F.cd dX9_from_113 (by decide) ?_
                  exact ih9 (k + 1) σ19 B9 (by omega) (by rw [hσ9, hσk, sset_sset]) (hWI.step hI (by omega) c_77 c_85 hP9) H locs ls hW (lv_sub hl [3, 4, 0] rfl)
          · refine lv_aload_n F.x F.cd dX9_from_57 rfl (lv_at hl 0 rfl) ?_
            refine s_getN F hW (ci := 9) (C := RX5) (T := TX5) (N := 7) (v := .int (nI (pV v k))) ((hWn.2.2.2.2.2.1 k (by omega)).1) rfl in_X5 3 (by decide) q1078 (fun _ h9 => h9) rfl dX9_from_58 ?_
            refine lv_aload_n F.x F.cd dX9_from_61 rfl (lv_at hl 1 rfl) ?_
            refine s_get F hW (ci := 12) (C := RX9) (T := TX9) (N := 4) (v := .int (nI s)) (e0n) rfl in_X9 1 (by decide) q303 (fun _ h9 => h9) rfl dX9_from_62 ?_
            refine n_icmp_lt (a := pV v k) (b := s) (tgt := 72) F (by omega) (by omega) dX9_from_65 (by decide) (fun c_65 => ?_) (fun c_65 => ?_)
            · refine lv_iconst (v := (nI 0)) F.x F.cd dX9_from_72 (by decide) ?_
              refine W.eq (g2 := F0 m_ 73 ls (.int (bI (use v s c k)) :: [])) (by rw [show use v s c k = false by first | (simp [use, c_47, c_54, c_65]; done) | (simp [use, c_47, c_54, c_65]; omega)]; rfl) ?_
              refine lv_istore (lv' := [(4, .int (bI (use v s c k))), (3, .ref (L (100 + k))), (0, .ref h), (1, .int (nI t)), (2, .int (nI k))]) F.x F.cd dX9_from_73 hl (by decide) rfl (fun ls hl => ?_)
              refine lv_iload F.x F.cd dX9_from_75 (lv_at hl 0 rfl) ?_
              refine b_if_eq (b := (use v s c k)) (tgt := 110) F dX9_from_77 (by decide) (fun c_77 => ?_) (fun c_77 => ?_)
              · refine lv_iinc (k := 4) (v := (nI (k + 1))) (lv' := [(2, .int (nI (k + 1))), (4, .int (bI (use v s c k))), (3, .ref (L (100 + k))), (0, .ref h), (1, .int (nI t))]) F.x F.cd dX9_from_110 hl rfl (inc_nI k 1) (by decide) rfl (fun ls hl => ?_)
                refine lv_goto (tgt := 9) F.x F.cd dX9_from_113 (by decide) ?_
                exact ih9 (k + 1) σk Bk (by omega) (hσk) (hWI.skip (Or.inl c_77)) H locs ls hW (lv_sub hl [3, 4, 0] rfl)
              · refine lv_aload_n F.x F.cd dX9_from_80 rfl (lv_at hl 1 rfl) ?_
                refine lv_iload_n F.x F.cd dX9_from_81 rfl (lv_at hl 3 rfl) ?_
                refine s_callV (As := [.int (nI t)]) (rest := []) (C := RX5) (T := TX5) (N := 7) (n := 1) F hW (k_X5_touches g l σk (L (100 + k)) (pA v k) (pB v k) (pM v k) (pV v k) (pR v k) (pD v k) (pL v k) t ((hWn.2.2.2.2.2.1 k (by omega)).1) (by omega) (by omega) (by omega)) ((hWn.2.2.2.2.2.1 k (by omega)).1) rfl q675 q676 q677 q96 q678 rfl (by decide +kernel) rfl ⟨⟨Nat.le_of_ble_eq_true rfl, Nat.le_of_ble_eq_true rfl⟩, ⟨(Nat.le_of_ble_eq_true rfl), (Nat.le_of_ble_eq_true rfl)⟩⟩ (Nat.le_of_ble_eq_true rfl) hl.1 rfl dX9_from_82 cX_no (fun r20 σ20 H locs hp20 hW => ?_)
                obtain ⟨rfl, hs20⟩ := hp20
                rw [hs20] at hW
                refine W.eq (g2 := F0 m_ 85 ls (.int (bI (tch (pA v k) (pB v k) t)) :: [])) rfl ?_
                refine b_if_eq (b := (tch (pA v k) (pB v k) t)) (tgt := 110) F dX9_from_85 (by decide) (fun c_85 => ?_) (fun c_85 => ?_)
                · refine lv_iinc (k := 4) (v := (nI (k + 1))) (lv' := [(2, .int (nI (k + 1))), (4, .int (bI (use v s c k))), (3, .ref (L (100 + k))), (0, .ref h), (1, .int (nI t))]) F.x F.cd dX9_from_110 hl rfl (inc_nI k 1) (by decide) rfl (fun ls hl => ?_)
                  refine lv_goto (tgt := 9) F.x F.cd dX9_from_113 (by decide) ?_
                  exact ih9 (k + 1) σk Bk (by omega) (hσk) (hWI.skip (Or.inr (Or.inl c_85))) H locs ls hW (lv_sub hl [3, 4, 0] rfl)
                · refine lv_aload_n F.x F.cd dX9_from_88 rfl (lv_at hl 2 rfl) ?_
                  refine s_get F hW (ci := 12) (C := RX9) (T := TX9) (N := 4) (v := .ref ar) (e0n) rfl in_X9 0 (by decide) q301 (fun _ h9 => h9) rfl dX9_from_89 ?_
                  refine lv_aload_n F.x F.cd dX9_from_92 rfl (lv_at hl 1 rfl) ?_
                  refine lv_iload_n F.x F.cd dX9_from_93 rfl (lv_at hl 3 rfl) ?_
                  refine s_callV (As := [.int (nI t)]) (rest := [.ref ar]) (C := RX5) (T := TX5) (N := 7) (n := 1) F hW (k_X5_otherEnd g l σk (L (100 + k)) (pA v k) (pB v k) (pM v k) (pV v k) (pR v k) (pD v k) (pL v k) t ((hWn.2.2.2.2.2.1 k (by omega)).1) (by omega) (by omega)) ((hWn.2.2.2.2.2.1 k (by omega)).1) rfl q679 q680 q681 q96 q682 rfl (by decide +kernel) rfl ⟨⟨Nat.le_of_ble_eq_true rfl, Nat.le_of_ble_eq_true rfl⟩, ⟨(Nat.le_of_ble_eq_true rfl), (Nat.le_of_ble_eq_true rfl)⟩⟩ (Nat.le_of_ble_eq_true rfl) hl.1 rfl dX9_from_94 cX_no (fun r21 σ21 H locs hp21 hW => ?_)
                  obtain ⟨rfl, hs21⟩ := hp21
                  rw [hs21] at hW
                  refine W.eq (g2 := F0 m_ 97 ls (.int (nI (oth (pA v k) (pB v k) t)) :: .ref ar :: [])) rfl ?_
                  refine n_zald (i := oth (pA v k) (pB v k) t) (n := 8) (f := (fun x9 => bI (Bk x9))) (x := (bI (Bk (oth (pA v k) (pB v k) t)))) F hW (ean) (Nat.lt_of_lt_of_le (oth_lt hpq.1 hpq.2.1) hI.1) (by omega) (rfl) dX9_from_97 ?_
                  refine b_if_ne (b := (Bk (oth (pA v k) (pB v k) t))) (tgt := 110) F dX9_from_98 (by decide) (fun c_98 => ?_) (fun c_98 => ?_)
                  · refine lv_iinc (k := 4) (v := (nI (k + 1))) (lv' := [(2, .int (nI (k + 1))), (4, .int (bI (use v s c k))), (3, .ref (L (100 + k))), (0, .ref h), (1, .int (nI t))]) F.x F.cd dX9_from_110 hl rfl (inc_nI k 1) (by decide) rfl (fun ls hl => ?_)
                    refine lv_goto (tgt := 9) F.x F.cd dX9_from_113 (by decide) ?_
                    exact ih9 (k + 1) σk Bk (by omega) (hσk) (hWI.skip (Or.inr (Or.inr c_98))) H locs ls hW (lv_sub hl [3, 4, 0] rfl)
                  · refine lv_aload_n F.x F.cd dX9_from_101 rfl (lv_at hl 2 rfl) ?_
                    refine lv_aload_n F.x F.cd dX9_from_102 rfl (lv_at hl 1 rfl) ?_
                    refine lv_iload_n F.x F.cd dX9_from_103 rfl (lv_at hl 3 rfl) ?_
                    refine s_callV (As := [.int (nI t)]) (rest := [.ref h]) (C := RX5) (T := TX5) (N := 7) (n := 1) F hW (k_X5_otherEnd g l σk (L (100 + k)) (pA v k) (pB v k) (pM v k) (pV v k) (pR v k) (pD v k) (pL v k) t ((hWn.2.2.2.2.2.1 k (by omega)).1) (by omega) (by omega)) ((hWn.2.2.2.2.2.1 k (by omega)).1) rfl q679 q680 q681 q96 q682 rfl (by decide +kernel) rfl ⟨⟨Nat.le_of_ble_eq_true rfl, Nat.le_of_ble_eq_true rfl⟩, ⟨(Nat.le_of_ble_eq_true rfl), (Nat.le_of_ble_eq_true rfl)⟩⟩ (Nat.le_of_ble_eq_true rfl) hl.1 rfl dX9_from_104 cX_no (fun r22 σ22 H locs hp22 hW => ?_)
                    obtain ⟨rfl, hs22⟩ := hp22
                    rw [hs22] at hW
                    refine W.eq (g2 := F0 m_ 107 ls (.int (nI (oth (pA v k) (pB v k) t)) :: .ref h :: [])) rfl ?_
                    refine s_callV (As := [.int (nI (oth (pA v k) (pB v k) t))]) (rest := []) (C := RX9) (T := TX9) (N := 4) (n := 1) F hW (k_X9_from_6 g l σk L v h ar s (oth (pA v k) (pB v k) t) c Bk hWn hI e0n ean ba hs (oth_lt hpq.1 hpq.2.1) c_98 (by have := unvN_lt hWI.2.1 hR hWI.1 8 (by omega); unfold unv at hun ⊢; omega)) (e0n) rfl q683 q319 q320 q107 q321 rfl (by decide +kernel) rfl ⟨⟨Nat.le_of_ble_eq_true rfl, Nat.le_of_ble_eq_true rfl⟩, ⟨(Nat.le_of_ble_eq_true rfl), (Nat.le_of_ble_eq_true rfl)⟩⟩ (Nat.le_of_ble_eq_true rfl) hl.1 rfl dX9_from_107 cX_no (fun r23 σ23 H locs hp23 hW => ?_)
                    obtain ⟨rfl, B9, hσ9, hP9⟩ := hp23
                    refine W.eq (g2 := F0 m_ 110 ls ([])) rfl ?_
                    refine lv_iinc (k := 4) (v := (nI (k + 1))) (lv' := [(2, .int (nI (k + 1))), (4, .int (bI (use v s c k))), (3, .ref (L (100 + k))), (0, .ref h), (1, .int (nI t))]) F.x F.cd dX9_from_110 hl rfl (inc_nI k 1) (by decide) rfl (fun ls hl => ?_)
                    refine lv_goto (tgt := 9) F.x F.cd dX9_from_113 (by decide) ?_
                    exact ih9 (k + 1) σ23 B9 (by omega) (by rw [hσ9, hσk, sset_sset]) (hWI.step hI (by omega) c_77 c_85 hP9) H locs ls hW (lv_sub hl [3, 4, 0] rfl)
            · refine lv_iconst (v := (nI 1)) F.x F.cd dX9_from_68 (by decide) ?_
              refine lv_goto (tgt := 73) F.x F.cd dX9_from_69 (by decide) ?_
              refine W.eq (g2 := F0 m_ 73 ls (.int (bI (use v s c k)) :: [])) (by rw [show use v s c k = true by first | (simp [use, c_47, c_54, c_65]; done) | (simp [use, c_47, c_54, c_65]; omega)]; rfl) ?_
              refine lv_istore (lv' := [(4, .int (bI (use v s c k))), (3, .ref (L (100 + k))), (0, .ref h), (1, .int (nI t)), (2, .int (nI k))]) F.x F.cd dX9_from_73 hl (by decide) rfl (fun ls hl => ?_)
              refine lv_iload F.x F.cd dX9_from_75 (lv_at hl 0 rfl) ?_
              refine b_if_eq (b := (use v s c k)) (tgt := 110) F dX9_from_77 (by decide) (fun c_77 => ?_) (fun c_77 => ?_)
              · refine lv_iinc (k := 4) (v := (nI (k + 1))) (lv' := [(2, .int (nI (k + 1))), (4, .int (bI (use v s c k))), (3, .ref (L (100 + k))), (0, .ref h), (1, .int (nI t))]) F.x F.cd dX9_from_110 hl rfl (inc_nI k 1) (by decide) rfl (fun ls hl => ?_)
                refine lv_goto (tgt := 9) F.x F.cd dX9_from_113 (by decide) ?_
                exact ih9 (k + 1) σk Bk (by omega) (hσk) (hWI.skip (Or.inl c_77)) H locs ls hW (lv_sub hl [3, 4, 0] rfl)
              · refine lv_aload_n F.x F.cd dX9_from_80 rfl (lv_at hl 1 rfl) ?_
                refine lv_iload_n F.x F.cd dX9_from_81 rfl (lv_at hl 3 rfl) ?_
                refine s_callV (As := [.int (nI t)]) (rest := []) (C := RX5) (T := TX5) (N := 7) (n := 1) F hW (k_X5_touches g l σk (L (100 + k)) (pA v k) (pB v k) (pM v k) (pV v k) (pR v k) (pD v k) (pL v k) t ((hWn.2.2.2.2.2.1 k (by omega)).1) (by omega) (by omega) (by omega)) ((hWn.2.2.2.2.2.1 k (by omega)).1) rfl q675 q676 q677 q96 q678 rfl (by decide +kernel) rfl ⟨⟨Nat.le_of_ble_eq_true rfl, Nat.le_of_ble_eq_true rfl⟩, ⟨(Nat.le_of_ble_eq_true rfl), (Nat.le_of_ble_eq_true rfl)⟩⟩ (Nat.le_of_ble_eq_true rfl) hl.1 rfl dX9_from_82 cX_no (fun r24 σ24 H locs hp24 hW => ?_)
                obtain ⟨rfl, hs24⟩ := hp24
                rw [hs24] at hW
                refine W.eq (g2 := F0 m_ 85 ls (.int (bI (tch (pA v k) (pB v k) t)) :: [])) rfl ?_
                refine b_if_eq (b := (tch (pA v k) (pB v k) t)) (tgt := 110) F dX9_from_85 (by decide) (fun c_85 => ?_) (fun c_85 => ?_)
                · refine lv_iinc (k := 4) (v := (nI (k + 1))) (lv' := [(2, .int (nI (k + 1))), (4, .int (bI (use v s c k))), (3, .ref (L (100 + k))), (0, .ref h), (1, .int (nI t))]) F.x F.cd dX9_from_110 hl rfl (inc_nI k 1) (by decide) rfl (fun ls hl => ?_)
                  refine lv_goto (tgt := 9) F.x F.cd dX9_from_113 (by decide) ?_
                  exact ih9 (k + 1) σk Bk (by omega) (hσk) (hWI.skip (Or.inr (Or.inl c_85))) H locs ls hW (lv_sub hl [3, 4, 0] rfl)
                · refine lv_aload_n F.x F.cd dX9_from_88 rfl (lv_at hl 2 rfl) ?_
                  refine s_get F hW (ci := 12) (C := RX9) (T := TX9) (N := 4) (v := .ref ar) (e0n) rfl in_X9 0 (by decide) q301 (fun _ h9 => h9) rfl dX9_from_89 ?_
                  refine lv_aload_n F.x F.cd dX9_from_92 rfl (lv_at hl 1 rfl) ?_
                  refine lv_iload_n F.x F.cd dX9_from_93 rfl (lv_at hl 3 rfl) ?_
                  refine s_callV (As := [.int (nI t)]) (rest := [.ref ar]) (C := RX5) (T := TX5) (N := 7) (n := 1) F hW (k_X5_otherEnd g l σk (L (100 + k)) (pA v k) (pB v k) (pM v k) (pV v k) (pR v k) (pD v k) (pL v k) t ((hWn.2.2.2.2.2.1 k (by omega)).1) (by omega) (by omega)) ((hWn.2.2.2.2.2.1 k (by omega)).1) rfl q679 q680 q681 q96 q682 rfl (by decide +kernel) rfl ⟨⟨Nat.le_of_ble_eq_true rfl, Nat.le_of_ble_eq_true rfl⟩, ⟨(Nat.le_of_ble_eq_true rfl), (Nat.le_of_ble_eq_true rfl)⟩⟩ (Nat.le_of_ble_eq_true rfl) hl.1 rfl dX9_from_94 cX_no (fun r25 σ25 H locs hp25 hW => ?_)
                  obtain ⟨rfl, hs25⟩ := hp25
                  rw [hs25] at hW
                  refine W.eq (g2 := F0 m_ 97 ls (.int (nI (oth (pA v k) (pB v k) t)) :: .ref ar :: [])) rfl ?_
                  refine n_zald (i := oth (pA v k) (pB v k) t) (n := 8) (f := (fun x9 => bI (Bk x9))) (x := (bI (Bk (oth (pA v k) (pB v k) t)))) F hW (ean) (Nat.lt_of_lt_of_le (oth_lt hpq.1 hpq.2.1) hI.1) (by omega) (rfl) dX9_from_97 ?_
                  refine b_if_ne (b := (Bk (oth (pA v k) (pB v k) t))) (tgt := 110) F dX9_from_98 (by decide) (fun c_98 => ?_) (fun c_98 => ?_)
                  · refine lv_iinc (k := 4) (v := (nI (k + 1))) (lv' := [(2, .int (nI (k + 1))), (4, .int (bI (use v s c k))), (3, .ref (L (100 + k))), (0, .ref h), (1, .int (nI t))]) F.x F.cd dX9_from_110 hl rfl (inc_nI k 1) (by decide) rfl (fun ls hl => ?_)
                    refine lv_goto (tgt := 9) F.x F.cd dX9_from_113 (by decide) ?_
                    exact ih9 (k + 1) σk Bk (by omega) (hσk) (hWI.skip (Or.inr (Or.inr c_98))) H locs ls hW (lv_sub hl [3, 4, 0] rfl)
                  · refine lv_aload_n F.x F.cd dX9_from_101 rfl (lv_at hl 2 rfl) ?_
                    refine lv_aload_n F.x F.cd dX9_from_102 rfl (lv_at hl 1 rfl) ?_
                    refine lv_iload_n F.x F.cd dX9_from_103 rfl (lv_at hl 3 rfl) ?_
                    refine s_callV (As := [.int (nI t)]) (rest := [.ref h]) (C := RX5) (T := TX5) (N := 7) (n := 1) F hW (k_X5_otherEnd g l σk (L (100 + k)) (pA v k) (pB v k) (pM v k) (pV v k) (pR v k) (pD v k) (pL v k) t ((hWn.2.2.2.2.2.1 k (by omega)).1) (by omega) (by omega)) ((hWn.2.2.2.2.2.1 k (by omega)).1) rfl q679 q680 q681 q96 q682 rfl (by decide +kernel) rfl ⟨⟨Nat.le_of_ble_eq_true rfl, Nat.le_of_ble_eq_true rfl⟩, ⟨(Nat.le_of_ble_eq_true rfl), (Nat.le_of_ble_eq_true rfl)⟩⟩ (Nat.le_of_ble_eq_true rfl) hl.1 rfl dX9_from_104 cX_no (fun r26 σ26 H locs hp26 hW => ?_)
                    obtain ⟨rfl, hs26⟩ := hp26
                    rw [hs26] at hW
                    refine W.eq (g2 := F0 m_ 107 ls (.int (nI (oth (pA v k) (pB v k) t)) :: .ref h :: [])) rfl ?_
                    refine s_callV (As := [.int (nI (oth (pA v k) (pB v k) t))]) (rest := []) (C := RX9) (T := TX9) (N := 4) (n := 1) F hW (k_X9_from_6 g l σk L v h ar s (oth (pA v k) (pB v k) t) c Bk hWn hI e0n ean ba hs (oth_lt hpq.1 hpq.2.1) c_98 (by have := unvN_lt hWI.2.1 hR hWI.1 8 (by omega); unfold unv at hun ⊢; omega)) (e0n) rfl q683 q319 q320 q107 q321 rfl (by decide +kernel) rfl ⟨⟨Nat.le_of_ble_eq_true rfl, Nat.le_of_ble_eq_true rfl⟩, ⟨(Nat.le_of_ble_eq_true rfl), (Nat.le_of_ble_eq_true rfl)⟩⟩ (Nat.le_of_ble_eq_true rfl) hl.1 rfl dX9_from_107 cX_no (fun r27 σ27 H locs hp27 hW => ?_)
                    obtain ⟨rfl, B9, hσ9, hP9⟩ := hp27
                    refine W.eq (g2 := F0 m_ 110 ls ([])) rfl ?_
                    refine lv_iinc (k := 4) (v := (nI (k + 1))) (lv' := [(2, .int (nI (k + 1))), (4, .int (bI (use v s c k))), (3, .ref (L (100 + k))), (0, .ref h), (1, .int (nI t))]) F.x F.cd dX9_from_110 hl rfl (inc_nI k 1) (by decide) rfl (fun ls hl => ?_)
                    refine lv_goto (tgt := 9) F.x F.cd dX9_from_113 (by decide) ?_
                    exact ih9 (k + 1) σ27 B9 (by omega) (by rw [hσ9, hσk, sset_sset]) (hWI.step hI (by omega) c_77 c_85 hP9) H locs ls hW (lv_sub hl [3, 4, 0] rfl)
  exact loop9 (v 1) 0 _ _ (by omega) (hσ0) (WI.start) H locs ls hW (lv_sub hl [1, 2, 0] rfl)
set_option maxHeartbeats 4000000 in
theorem k_X9_from_8 (g : Gh) (l : Launch) (σ : Sto) (L v : Nat → Nat) (h ar s t : Nat) (c : Int32) (B : Nat → Bool) (hWk : IsWorks g σ L v) (hI : Inv v) (e0 : σ h = some (.inr (12, [.ref ar, .int (nI s), .int c, .ref (L 0)]))) (ea : σ ar = some (eI g 2 8 (fun j => bI (B j)))) (ba : gB g ≤ ar) (hs : s < 2 ^ 30) (ht : t < v 0) (hR : B t = false) (hun : unv B ≤ 8) : Ct g l yX9_from cX9_from 5 none ({ frames := 10, cells := 0, slots := 0, locals := 232 } : Room) [.ref h, .int (nI t)] σ (fun r σ' => r = none ∧ ∃ R' : Nat → Bool, σ' = sset σ ar (eI g 2 8 (fun j => bI (R' j))) ∧ WP v s c B t R') (nox) := by
  refine Ct.body (by decide) (Nat.le_of_ble_eq_true rfl) ?_
  intro p_ e_ s_ m_ args_ below_ meth_ c_ ls H locs Q F hW hl hQ
  have hl : lv_has ls 5 [(0, .ref h), (1, .int (nI t))] := hl
  have hT := hWk.2.2.1
  have hP := hWk.2.2.2.1
  obtain ⟨mcT, nT, fT, eT, bT, -⟩ := id hT
  obtain ⟨mcP, nP, fP, eP, bP, -⟩ := id hP
  have hv0 := hI.1
  have hv1 := hI.2.1
  refine lv_aload_n F.x F.cd dX9_from_0 rfl (lv_at hl 0 rfl) ?_
  refine s_get F hW (ci := 12) (C := RX9) (T := TX9) (N := 4) (v := .ref ar) (e0) rfl in_X9 0 (by decide) q301 (fun _ h9 => h9) rfl dX9_from_1 ?_
  refine lv_iload_n F.x F.cd dX9_from_4 rfl (lv_at hl 1 rfl) ?_
  refine lv_iconst (v := (nI 1)) F.x F.cd dX9_from_5 (by decide) ?_
  refine n_zast (i := t) F hW (ea) (ba) (by omega) (by omega) (show narrow .boolean (.int (nI 1)) = .int (nI 1) by decide) dX9_from_6 (fun H locs hW => ?_)
  obtain ⟨σ1, hσ1⟩ : ∃ z, z = sset σ ar (eI g 2 8 (upd (fun x9 => bI (B x9)) t (nI 1))) := ⟨_, rfl⟩
  have hW : Hl g σ1 H locs := by rw [hσ1]; exact hW
  have w1 : σ1 ar = some (eI g 2 8 (upd (fun x9 => bI (B x9)) t (nI 1))) := by rw [hσ1]; exact sset_eq
  have f2 : σ1 (L 0) = some (.inr (1, [.ref (L 1), .ref (L 2), .int (nI (v 2)), .int (nI (v 3)), .int (nI (v 4)), .int (nI (v 5))])) := by rw [hσ1, sset_ne (sto_ne ea hWk.1 (by simp))]; exact hWk.1
  have f3 : σ1 (L 1) = some (.inr (2, [.int mcT, .ref (L 3), .int (nI (v 0))])) := by rw [hσ1, sset_ne (sto_ne ea eT (by simp))]; exact eT
  have j4 := IsList.setI (e := eI g 2 8 (upd (fun x9 => bI (B x9)) t (nI 1))) (hT) (ea)
  rw [← hσ1] at j4
  have f5 : σ1 (L 2) = some (.inr (2, [.int mcP, .ref (L 4), .int (nI (v 1))])) := by rw [hσ1, sset_ne (sto_ne ea eP (by simp))]; exact eP
  have j6 := IsList.setI (e := eI g 2 8 (upd (fun x9 => bI (B x9)) t (nI 1))) (hP) (ea)
  rw [← hσ1] at j6
  have f7 : σ1 h = some (.inr (12, [.ref ar, .int (nI s), .int c, .ref (L 0)])) := by rw [hσ1, sset_ne (sto_ne ea e0 (by simp))]; exact e0
  have hσ0 : σ1 = sset σ ar (eI g 2 8 (fun j => bI (va_up B t true j))) := by rw [hσ1, updB]
  refine lv_iconst (v := (nI 0)) F.x F.cd dX9_from_7 (by decide) ?_
  refine lv_istore_n (lv' := [(2, .int (nI 0)), (0, .ref h), (1, .int (nI t))]) F.x F.cd dX9_from_8 rfl hl (by decide) rfl (fun ls hl => ?_)
  have loop9 : ∀ (n : Nat) (k : Nat) (σk : Sto) (Bk : Nat → Bool), k + n = v 1 → (σk = sset σ ar (eI g 2 8 (fun j => bI (Bk j)))) → WI v s c B t Bk k → ∀ (H : Heap) (locs : List Loc) (ls : Array Slot), Hl g σk H locs → lv_has ls 5 [(0, .ref h), (1, .int (nI t)), (2, .int (nI k))] → W p_ l e_ ({ frames := 10, cells := 0, slots := 0, locals := 232 } : Room) s_ m_ args_ below_ meth_ c_ H locs 0 0 Q (F0 m_ 9 ls ([])) := by
    intro n
    induction n with
    | zero =>
      intro k σk Bk hkn hσk hWI H locs ls hW hl
      have hWn : IsWorks g σk L v := by rw [hσk]; exact hWk.setI ea
      have e0n : σk h = some (.inr (12, [.ref ar, .int (nI s), .int c, .ref (L 0)])) := by rw [hσk, sset_ne (sto_ne ea e0 (by simp))]; exact e0
      have ean : σk ar = some (eI g 2 8 (fun j => bI (Bk j))) := by rw [hσk, sset_eq]
      have hT_k := hWn.2.2.1
      have hP_k := hWn.2.2.2.1
      obtain ⟨mcT_k, nT_k, fT_k, eT_k, bT_k, -⟩ := id hT_k
      obtain ⟨mcP_k, nP_k, fP_k, eP_k, bP_k, -⟩ := id hP_k
      have hv0_k := hI.1
      have hv1_k := hI.2.1
      refine lv_iload_n F.x F.cd dX9_from_9 rfl (lv_at hl 2 rfl) ?_
      refine lv_aload_n F.x F.cd dX9_from_10 rfl (lv_at hl 0 rfl) ?_
      refine s_get F hW (ci := 12) (C := RX9) (T := TX9) (N := 4) (v := .ref (L 0)) (e0n) rfl in_X9 3 (by decide) q305 (fun _ h9 => h9) rfl dX9_from_11 ?_
      refine s_getN F hW (ci := 1) (C := RX2) (T := TX2) (N := 6) (v := .ref (L 2)) (hWn.1) rfl in_X2 1 (by decide) q163 (fun _ h9 => h9) rfl dX9_from_14 ?_
      refine s_callF (As := []) (rest := [.int (nI k)]) (C := RJ2) (T := TJ2) (N := 3) (n := 0) F hW (k_J2_size g l σk _ _ _ _ hP_k) (eP_k) rfl (List.mem_of_getElem? (i := 0) rfl) q323 q272 q274 q72 q276 (by decide +kernel) rfl ⟨⟨Nat.le_of_ble_eq_true rfl, Nat.le_of_ble_eq_true rfl⟩, ⟨(Nat.le_of_ble_eq_true rfl), (Nat.le_of_ble_eq_true rfl)⟩⟩ (Nat.le_of_ble_eq_true rfl) hl.1 rfl dX9_from_17 cX_no (fun r8 σ8 H locs hp8 hW => ?_)
      obtain ⟨rfl, hs8⟩ := hp8
      rw [hs8] at hW
      refine W.eq (g2 := F0 m_ 22 ls (.int (nI (v 1)) :: .int (nI k) :: [])) rfl ?_
      refine n_icmp_ge (a := k) (b := v 1) (tgt := 116) F (by omega) (by omega) dX9_from_22 (by decide) (fun c_22 => ?_) (fun c_22 => ?_)
      · subst hQ
        exact s_retv F hW (⟨rfl, Bk, hσk, WI.done hI (by rw [← show k = v 1 by omega]; exact hWI)⟩) ⟨(Nat.le_of_ble_eq_true rfl), (Nat.le_of_ble_eq_true rfl)⟩ dX9_from_116
      · exact absurd c_22 (by omega)
    | succ n ih9 =>
      intro k σk Bk hkn hσk hWI H locs ls hW hl
      have hWn : IsWorks g σk L v := by rw [hσk]; exact hWk.setI ea
      have e0n : σk h = some (.inr (12, [.ref ar, .int (nI s), .int c, .ref (L 0)])) := by rw [hσk, sset_ne (sto_ne ea e0 (by simp))]; exact e0
      have ean : σk ar = some (eI g 2 8 (fun j => bI (Bk j))) := by rw [hσk, sset_eq]
      have hT_k := hWn.2.2.1
      have hP_k := hWn.2.2.2.1
      obtain ⟨mcT_k, nT_k, fT_k, eT_k, bT_k, -⟩ := id hT_k
      obtain ⟨mcP_k, nP_k, fP_k, eP_k, bP_k, -⟩ := id hP_k
      have hv0_k := hI.1
      have hv1_k := hI.2.1
      refine lv_iload_n F.x F.cd dX9_from_9 rfl (lv_at hl 2 rfl) ?_
      refine lv_aload_n F.x F.cd dX9_from_10 rfl (lv_at hl 0 rfl) ?_
      refine s_get F hW (ci := 12) (C := RX9) (T := TX9) (N := 4) (v := .ref (L 0)) (e0n) rfl in_X9 3 (by decide) q305 (fun _ h9 => h9) rfl dX9_from_11 ?_
      refine s_getN F hW (ci := 1) (C := RX2) (T := TX2) (N := 6) (v := .ref (L 2)) (hWn.1) rfl in_X2 1 (by decide) q163 (fun _ h9 => h9) rfl dX9_from_14 ?_
      refine s_callF (As := []) (rest := [.int (nI k)]) (C := RJ2) (T := TJ2) (N := 3) (n := 0) F hW (k_J2_size g l σk _ _ _ _ hP_k) (eP_k) rfl (List.mem_of_getElem? (i := 0) rfl) q323 q272 q274 q72 q276 (by decide +kernel) rfl ⟨⟨Nat.le_of_ble_eq_true rfl, Nat.le_of_ble_eq_true rfl⟩, ⟨(Nat.le_of_ble_eq_true rfl), (Nat.le_of_ble_eq_true rfl)⟩⟩ (Nat.le_of_ble_eq_true rfl) hl.1 rfl dX9_from_17 cX_no (fun r9 σ9 H locs hp9 hW => ?_)
      obtain ⟨rfl, hs9⟩ := hp9
      rw [hs9] at hW
      refine W.eq (g2 := F0 m_ 22 ls (.int (nI (v 1)) :: .int (nI k) :: [])) rfl ?_
      refine n_icmp_ge (a := k) (b := v 1) (tgt := 116) F (by omega) (by omega) dX9_from_22 (by decide) (fun c_22 => ?_) (fun c_22 => ?_)
      · exact absurd c_22 (by omega)
      · have hpq := hI.pp (q := k) (by omega)
        refine lv_aload_n F.x F.cd dX9_from_25 rfl (lv_at hl 0 rfl) ?_
        refine s_get F hW (ci := 12) (C := RX9) (T := TX9) (N := 4) (v := .ref (L 0)) (e0n) rfl in_X9 3 (by decide) q305 (fun _ h9 => h9) rfl dX9_from_26 ?_
        refine s_getN F hW (ci := 1) (C := RX2) (T := TX2) (N := 6) (v := .ref (L 2)) (hWn.1) rfl in_X2 1 (by decide) q163 (fun _ h9 => h9) rfl dX9_from_29 ?_
        refine lv_iload_n F.x F.cd dX9_from_32 rfl (lv_at hl 2 rfl) ?_
        refine s_callF (As := [.int (nI k)]) (rest := []) (C := RJ2) (T := TJ2) (N := 3) (n := 1) F hW (k_J2_get g l σk _ _ _ _ k hP_k (by omega)) (eP_k) rfl (List.mem_of_getElem? (i := 1) rfl) q325 q328 q330 q72 q332 (by decide +kernel) rfl ⟨⟨Nat.le_of_ble_eq_true rfl, Nat.le_of_ble_eq_true rfl⟩, ⟨(Nat.le_of_ble_eq_true rfl), (Nat.le_of_ble_eq_true rfl)⟩⟩ (Nat.le_of_ble_eq_true rfl) hl.1 rfl dX9_from_33 cX_no (fun r10 σ10 H locs hp10 hW => ?_)
        obtain ⟨rfl, hs10⟩ := hp10
        rw [hs10] at hW
        refine W.eq (g2 := F0 m_ 38 ls (.ref (L (100 + k)) :: [])) rfl ?_
        refine s_cast_ F hW (C := RX5) (T := TX5) (N := 7) ((hWn.2.2.2.2.2.1 k (by omega)).1) rfl q670 dX9_from_38 ?_
        refine lv_astore_n (lv' := [(3, .ref (L (100 + k))), (0, .ref h), (1, .int (nI t)), (2, .int (nI k))]) F.x F.cd dX9_from_41 rfl hl (by decide) rfl (fun ls hl => ?_)
        refine lv_iload_n F.x F.cd dX9_from_42 rfl (lv_at hl 3 rfl) ?_
        refine lv_aload_n F.x F.cd dX9_from_43 rfl (lv_at hl 1 rfl) ?_
        refine s_get F hW (ci := 12) (C := RX9) (T := TX9) (N := 4) (v := .int c) (e0n) rfl in_X9 2 (by decide) q304 (fun _ h9 => h9) rfl dX9_from_44 ?_
        refine lv_icmp_eq (x := (nI k)) (y := c) (tgt := 72) F.x F.cd dX9_from_47 (by decide) (fun c_47 => ?_) (fun c_47 => ?_)
        · refine lv_iconst (v := (nI 0)) F.x F.cd dX9_from_72 (by decide) ?_
          refine W.eq (g2 := F0 m_ 73 ls (.int (bI (use v s c k)) :: [])) (by rw [show use v s c k = false by first | (simp [use, c_47]; done) | (simp [use, c_47]; omega)]; rfl) ?_
          refine lv_istore (lv' := [(4, .int (bI (use v s c k))), (3, .ref (L (100 + k))), (0, .ref h), (1, .int (nI t)), (2, .int (nI k))]) F.x F.cd dX9_from_73 hl (by decide) rfl (fun ls hl => ?_)
          refine lv_iload F.x F.cd dX9_from_75 (lv_at hl 0 rfl) ?_
          refine b_if_eq (b := (use v s c k)) (tgt := 110) F dX9_from_77 (by decide) (fun c_77 => ?_) (fun c_77 => ?_)
          · refine lv_iinc (k := 4) (v := (nI (k + 1))) (lv' := [(2, .int (nI (k + 1))), (4, .int (bI (use v s c k))), (3, .ref (L (100 + k))), (0, .ref h), (1, .int (nI t))]) F.x F.cd dX9_from_110 hl rfl (inc_nI k 1) (by decide) rfl (fun ls hl => ?_)
            refine lv_goto (tgt := 9) F.x F.cd dX9_from_113 (by decide) ?_
            exact ih9 (k + 1) σk Bk (by omega) (hσk) (hWI.skip (Or.inl c_77)) H locs ls hW (lv_sub hl [3, 4, 0] rfl)
          · refine lv_aload_n F.x F.cd dX9_from_80 rfl (lv_at hl 1 rfl) ?_
            refine lv_iload_n F.x F.cd dX9_from_81 rfl (lv_at hl 3 rfl) ?_
            refine s_callV (As := [.int (nI t)]) (rest := []) (C := RX5) (T := TX5) (N := 7) (n := 1) F hW (k_X5_touches g l σk (L (100 + k)) (pA v k) (pB v k) (pM v k) (pV v k) (pR v k) (pD v k) (pL v k) t ((hWn.2.2.2.2.2.1 k (by omega)).1) (by omega) (by omega) (by omega)) ((hWn.2.2.2.2.2.1 k (by omega)).1) rfl q675 q676 q677 q96 q678 rfl (by decide +kernel) rfl ⟨⟨Nat.le_of_ble_eq_true rfl, Nat.le_of_ble_eq_true rfl⟩, ⟨(Nat.le_of_ble_eq_true rfl), (Nat.le_of_ble_eq_true rfl)⟩⟩ (Nat.le_of_ble_eq_true rfl) hl.1 rfl dX9_from_82 cX_no (fun r11 σ11 H locs hp11 hW => ?_)
            obtain ⟨rfl, hs11⟩ := hp11
            rw [hs11] at hW
            refine W.eq (g2 := F0 m_ 85 ls (.int (bI (tch (pA v k) (pB v k) t)) :: [])) rfl ?_
            refine b_if_eq (b := (tch (pA v k) (pB v k) t)) (tgt := 110) F dX9_from_85 (by decide) (fun c_85 => ?_) (fun c_85 => ?_)
            · refine lv_iinc (k := 4) (v := (nI (k + 1))) (lv' := [(2, .int (nI (k + 1))), (4, .int (bI (use v s c k))), (3, .ref (L (100 + k))), (0, .ref h), (1, .int (nI t))]) F.x F.cd dX9_from_110 hl rfl (inc_nI k 1) (by decide) rfl (fun ls hl => ?_)
              refine lv_goto (tgt := 9) F.x F.cd dX9_from_113 (by decide) ?_
              exact ih9 (k + 1) σk Bk (by omega) (hσk) (hWI.skip (Or.inr (Or.inl c_85))) H locs ls hW (lv_sub hl [3, 4, 0] rfl)
            · refine lv_aload_n F.x F.cd dX9_from_88 rfl (lv_at hl 2 rfl) ?_
              refine s_get F hW (ci := 12) (C := RX9) (T := TX9) (N := 4) (v := .ref ar) (e0n) rfl in_X9 0 (by decide) q301 (fun _ h9 => h9) rfl dX9_from_89 ?_
              refine lv_aload_n F.x F.cd dX9_from_92 rfl (lv_at hl 1 rfl) ?_
              refine lv_iload_n F.x F.cd dX9_from_93 rfl (lv_at hl 3 rfl) ?_
              refine s_callV (As := [.int (nI t)]) (rest := [.ref ar]) (C := RX5) (T := TX5) (N := 7) (n := 1) F hW (k_X5_otherEnd g l σk (L (100 + k)) (pA v k) (pB v k) (pM v k) (pV v k) (pR v k) (pD v k) (pL v k) t ((hWn.2.2.2.2.2.1 k (by omega)).1) (by omega) (by omega)) ((hWn.2.2.2.2.2.1 k (by omega)).1) rfl q679 q680 q681 q96 q682 rfl (by decide +kernel) rfl ⟨⟨Nat.le_of_ble_eq_true rfl, Nat.le_of_ble_eq_true rfl⟩, ⟨(Nat.le_of_ble_eq_true rfl), (Nat.le_of_ble_eq_true rfl)⟩⟩ (Nat.le_of_ble_eq_true rfl) hl.1 rfl dX9_from_94 cX_no (fun r12 σ12 H locs hp12 hW => ?_)
              obtain ⟨rfl, hs12⟩ := hp12
              rw [hs12] at hW
              refine W.eq (g2 := F0 m_ 97 ls (.int (nI (oth (pA v k) (pB v k) t)) :: .ref ar :: [])) rfl ?_
              refine n_zald (i := oth (pA v k) (pB v k) t) (n := 8) (f := (fun x9 => bI (Bk x9))) (x := (bI (Bk (oth (pA v k) (pB v k) t)))) F hW (ean) (Nat.lt_of_lt_of_le (oth_lt hpq.1 hpq.2.1) hI.1) (by omega) (rfl) dX9_from_97 ?_
              refine b_if_ne (b := (Bk (oth (pA v k) (pB v k) t))) (tgt := 110) F dX9_from_98 (by decide) (fun c_98 => ?_) (fun c_98 => ?_)
              · refine lv_iinc (k := 4) (v := (nI (k + 1))) (lv' := [(2, .int (nI (k + 1))), (4, .int (bI (use v s c k))), (3, .ref (L (100 + k))), (0, .ref h), (1, .int (nI t))]) F.x F.cd dX9_from_110 hl rfl (inc_nI k 1) (by decide) rfl (fun ls hl => ?_)
                refine lv_goto (tgt := 9) F.x F.cd dX9_from_113 (by decide) ?_
                exact ih9 (k + 1) σk Bk (by omega) (hσk) (hWI.skip (Or.inr (Or.inr c_98))) H locs ls hW (lv_sub hl [3, 4, 0] rfl)
              · refine lv_aload_n F.x F.cd dX9_from_101 rfl (lv_at hl 2 rfl) ?_
                refine lv_aload_n F.x F.cd dX9_from_102 rfl (lv_at hl 1 rfl) ?_
                refine lv_iload_n F.x F.cd dX9_from_103 rfl (lv_at hl 3 rfl) ?_
                refine s_callV (As := [.int (nI t)]) (rest := [.ref h]) (C := RX5) (T := TX5) (N := 7) (n := 1) F hW (k_X5_otherEnd g l σk (L (100 + k)) (pA v k) (pB v k) (pM v k) (pV v k) (pR v k) (pD v k) (pL v k) t ((hWn.2.2.2.2.2.1 k (by omega)).1) (by omega) (by omega)) ((hWn.2.2.2.2.2.1 k (by omega)).1) rfl q679 q680 q681 q96 q682 rfl (by decide +kernel) rfl ⟨⟨Nat.le_of_ble_eq_true rfl, Nat.le_of_ble_eq_true rfl⟩, ⟨(Nat.le_of_ble_eq_true rfl), (Nat.le_of_ble_eq_true rfl)⟩⟩ (Nat.le_of_ble_eq_true rfl) hl.1 rfl dX9_from_104 cX_no (fun r13 σ13 H locs hp13 hW => ?_)
                obtain ⟨rfl, hs13⟩ := hp13
                rw [hs13] at hW
                refine W.eq (g2 := F0 m_ 107 ls (.int (nI (oth (pA v k) (pB v k) t)) :: .ref h :: [])) rfl ?_
                refine s_callV (As := [.int (nI (oth (pA v k) (pB v k) t))]) (rest := []) (C := RX9) (T := TX9) (N := 4) (n := 1) F hW (k_X9_from_7 g l σk L v h ar s (oth (pA v k) (pB v k) t) c Bk hWn hI e0n ean ba hs (oth_lt hpq.1 hpq.2.1) c_98 (by have := unvN_lt hWI.2.1 hR hWI.1 8 (by omega); unfold unv at hun ⊢; omega)) (e0n) rfl q683 q319 q320 q107 q321 rfl (by decide +kernel) rfl ⟨⟨Nat.le_of_ble_eq_true rfl, Nat.le_of_ble_eq_true rfl⟩, ⟨(Nat.le_of_ble_eq_true rfl), (Nat.le_of_ble_eq_true rfl)⟩⟩ (Nat.le_of_ble_eq_true rfl) hl.1 rfl dX9_from_107 cX_no (fun r14 σ14 H locs hp14 hW => ?_)
                obtain ⟨rfl, B9, hσ9, hP9⟩ := hp14
                refine W.eq (g2 := F0 m_ 110 ls ([])) rfl ?_
                refine lv_iinc (k := 4) (v := (nI (k + 1))) (lv' := [(2, .int (nI (k + 1))), (4, .int (bI (use v s c k))), (3, .ref (L (100 + k))), (0, .ref h), (1, .int (nI t))]) F.x F.cd dX9_from_110 hl rfl (inc_nI k 1) (by decide) rfl (fun ls hl => ?_)
                refine lv_goto (tgt := 9) F.x F.cd dX9_from_113 (by decide) ?_
                exact ih9 (k + 1) σ14 B9 (by omega) (by rw [hσ9, hσk, sset_sset]) (hWI.step hI (by omega) c_77 c_85 hP9) H locs ls hW (lv_sub hl [3, 4, 0] rfl)
        · refine lv_aload_n F.x F.cd dX9_from_50 rfl (lv_at hl 0 rfl) ?_
          refine s_callV (As := []) (rest := []) (C := RX5) (T := TX5) (N := 7) (n := 0) F hW (k_X5_isOpen g l σk (L (100 + k)) (pA v k) (pB v k) (pM v k) (pV v k) (pR v k) (pD v k) (pL v k) ((hWn.2.2.2.2.2.1 k (by omega)).1) (by omega) (by omega)) ((hWn.2.2.2.2.2.1 k (by omega)).1) rfl q671 q672 q673 q96 q674 rfl (by decide +kernel) rfl ⟨⟨Nat.le_of_ble_eq_true rfl, Nat.le_of_ble_eq_true rfl⟩, ⟨(Nat.le_of_ble_eq_true rfl), (Nat.le_of_ble_eq_true rfl)⟩⟩ (Nat.le_of_ble_eq_true rfl) hl.1 rfl dX9_from_51 cX_no (fun r15 σ15 H locs hp15 hW => ?_)
          obtain ⟨rfl, hs15⟩ := hp15
          rw [hs15] at hW
          refine W.eq (g2 := F0 m_ 54 ls (.int (bI (opn (pV v k) (pD v k))) :: [])) rfl ?_
          refine b_if_eq (b := (opn (pV v k) (pD v k))) (tgt := 72) F dX9_from_54 (by decide) (fun c_54 => ?_) (fun c_54 => ?_)
          · refine lv_iconst (v := (nI 0)) F.x F.cd dX9_from_72 (by decide) ?_
            refine W.eq (g2 := F0 m_ 73 ls (.int (bI (use v s c k)) :: [])) (by rw [show use v s c k = false by first | (simp [use, c_47, c_54]; done) | (simp [use, c_47, c_54]; omega)]; rfl) ?_
            refine lv_istore (lv' := [(4, .int (bI (use v s c k))), (3, .ref (L (100 + k))), (0, .ref h), (1, .int (nI t)), (2, .int (nI k))]) F.x F.cd dX9_from_73 hl (by decide) rfl (fun ls hl => ?_)
            refine lv_iload F.x F.cd dX9_from_75 (lv_at hl 0 rfl) ?_
            refine b_if_eq (b := (use v s c k)) (tgt := 110) F dX9_from_77 (by decide) (fun c_77 => ?_) (fun c_77 => ?_)
            · refine lv_iinc (k := 4) (v := (nI (k + 1))) (lv' := [(2, .int (nI (k + 1))), (4, .int (bI (use v s c k))), (3, .ref (L (100 + k))), (0, .ref h), (1, .int (nI t))]) F.x F.cd dX9_from_110 hl rfl (inc_nI k 1) (by decide) rfl (fun ls hl => ?_)
              refine lv_goto (tgt := 9) F.x F.cd dX9_from_113 (by decide) ?_
              exact ih9 (k + 1) σk Bk (by omega) (hσk) (hWI.skip (Or.inl c_77)) H locs ls hW (lv_sub hl [3, 4, 0] rfl)
            · refine lv_aload_n F.x F.cd dX9_from_80 rfl (lv_at hl 1 rfl) ?_
              refine lv_iload_n F.x F.cd dX9_from_81 rfl (lv_at hl 3 rfl) ?_
              refine s_callV (As := [.int (nI t)]) (rest := []) (C := RX5) (T := TX5) (N := 7) (n := 1) F hW (k_X5_touches g l σk (L (100 + k)) (pA v k) (pB v k) (pM v k) (pV v k) (pR v k) (pD v k) (pL v k) t ((hWn.2.2.2.2.2.1 k (by omega)).1) (by omega) (by omega) (by omega)) ((hWn.2.2.2.2.2.1 k (by omega)).1) rfl q675 q676 q677 q96 q678 rfl (by decide +kernel) rfl ⟨⟨Nat.le_of_ble_eq_true rfl, Nat.le_of_ble_eq_true rfl⟩, ⟨(Nat.le_of_ble_eq_true rfl), (Nat.le_of_ble_eq_true rfl)⟩⟩ (Nat.le_of_ble_eq_true rfl) hl.1 rfl dX9_from_82 cX_no (fun r16 σ16 H locs hp16 hW => ?_)
              obtain ⟨rfl, hs16⟩ := hp16
              rw [hs16] at hW
              refine W.eq (g2 := F0 m_ 85 ls (.int (bI (tch (pA v k) (pB v k) t)) :: [])) rfl ?_
              refine b_if_eq (b := (tch (pA v k) (pB v k) t)) (tgt := 110) F dX9_from_85 (by decide) (fun c_85 => ?_) (fun c_85 => ?_)
              · refine lv_iinc (k := 4) (v := (nI (k + 1))) (lv' := [(2, .int (nI (k + 1))), (4, .int (bI (use v s c k))), (3, .ref (L (100 + k))), (0, .ref h), (1, .int (nI t))]) F.x F.cd dX9_from_110 hl rfl (inc_nI k 1) (by decide) rfl (fun ls hl => ?_)
                refine lv_goto (tgt := 9) F.x F.cd dX9_from_113 (by decide) ?_
                exact ih9 (k + 1) σk Bk (by omega) (hσk) (hWI.skip (Or.inr (Or.inl c_85))) H locs ls hW (lv_sub hl [3, 4, 0] rfl)
              · refine lv_aload_n F.x F.cd dX9_from_88 rfl (lv_at hl 2 rfl) ?_
                refine s_get F hW (ci := 12) (C := RX9) (T := TX9) (N := 4) (v := .ref ar) (e0n) rfl in_X9 0 (by decide) q301 (fun _ h9 => h9) rfl dX9_from_89 ?_
                refine lv_aload_n F.x F.cd dX9_from_92 rfl (lv_at hl 1 rfl) ?_
                refine lv_iload_n F.x F.cd dX9_from_93 rfl (lv_at hl 3 rfl) ?_
                refine s_callV (As := [.int (nI t)]) (rest := [.ref ar]) (C := RX5) (T := TX5) (N := 7) (n := 1) F hW (k_X5_otherEnd g l σk (L (100 + k)) (pA v k) (pB v k) (pM v k) (pV v k) (pR v k) (pD v k) (pL v k) t ((hWn.2.2.2.2.2.1 k (by omega)).1) (by omega) (by omega)) ((hWn.2.2.2.2.2.1 k (by omega)).1) rfl q679 q680 q681 q96 q682 rfl (by decide +kernel) rfl ⟨⟨Nat.le_of_ble_eq_true rfl, Nat.le_of_ble_eq_true rfl⟩, ⟨(Nat.le_of_ble_eq_true rfl), (Nat.le_of_ble_eq_true rfl)⟩⟩ (Nat.le_of_ble_eq_true rfl) hl.1 rfl dX9_from_94 cX_no (fun r17 σ17 H locs hp17 hW => ?_)
                obtain ⟨rfl, hs17⟩ := hp17
                rw [hs17] at hW
                refine W.eq (g2 := F0 m_ 97 ls (.int (nI (oth (pA v k) (pB v k) t)) :: .ref ar :: [])) rfl ?_
                refine n_zald (i := oth (pA v k) (pB v k) t) (n := 8) (f := (fun x9 => bI (Bk x9))) (x := (bI (Bk (oth (pA v k) (pB v k) t)))) F hW (ean) (Nat.lt_of_lt_of_le (oth_lt hpq.1 hpq.2.1) hI.1) (by omega) (rfl) dX9_from_97 ?_
                refine b_if_ne (b := (Bk (oth (pA v k) (pB v k) t))) (tgt := 110) F dX9_from_98 (by decide) (fun c_98 => ?_) (fun c_98 => ?_)
                · refine lv_iinc (k := 4) (v := (nI (k + 1))) (lv' := [(2, .int (nI (k + 1))), (4, .int (bI (use v s c k))), (3, .ref (L (100 + k))), (0, .ref h), (1, .int (nI t))]) F.x F.cd dX9_from_110 hl rfl (inc_nI k 1) (by decide) rfl (fun ls hl => ?_)
                  refine lv_goto (tgt := 9) F.x F.cd dX9_from_113 (by decide) ?_
                  exact ih9 (k + 1) σk Bk (by omega) (hσk) (hWI.skip (Or.inr (Or.inr c_98))) H locs ls hW (lv_sub hl [3, 4, 0] rfl)
                · refine lv_aload_n F.x F.cd dX9_from_101 rfl (lv_at hl 2 rfl) ?_
                  refine lv_aload_n F.x F.cd dX9_from_102 rfl (lv_at hl 1 rfl) ?_
                  refine lv_iload_n F.x F.cd dX9_from_103 rfl (lv_at hl 3 rfl) ?_
                  refine s_callV (As := [.int (nI t)]) (rest := [.ref h]) (C := RX5) (T := TX5) (N := 7) (n := 1) F hW (k_X5_otherEnd g l σk (L (100 + k)) (pA v k) (pB v k) (pM v k) (pV v k) (pR v k) (pD v k) (pL v k) t ((hWn.2.2.2.2.2.1 k (by omega)).1) (by omega) (by omega)) ((hWn.2.2.2.2.2.1 k (by omega)).1) rfl q679 q680 q681 q96 q682 rfl (by decide +kernel) rfl ⟨⟨Nat.le_of_ble_eq_true rfl, Nat.le_of_ble_eq_true rfl⟩, ⟨(Nat.le_of_ble_eq_true rfl), (Nat.le_of_ble_eq_true rfl)⟩⟩ (Nat.le_of_ble_eq_true rfl) hl.1 rfl dX9_from_104 cX_no (fun r18 σ18 H locs hp18 hW => ?_)
                  obtain ⟨rfl, hs18⟩ := hp18
                  rw [hs18] at hW
                  refine W.eq (g2 := F0 m_ 107 ls (.int (nI (oth (pA v k) (pB v k) t)) :: .ref h :: [])) rfl ?_
                  refine s_callV (As := [.int (nI (oth (pA v k) (pB v k) t))]) (rest := []) (C := RX9) (T := TX9) (N := 4) (n := 1) F hW (k_X9_from_7 g l σk L v h ar s (oth (pA v k) (pB v k) t) c Bk hWn hI e0n ean ba hs (oth_lt hpq.1 hpq.2.1) c_98 (by have := unvN_lt hWI.2.1 hR hWI.1 8 (by omega); unfold unv at hun ⊢; omega)) (e0n) rfl q683 q319 q320 q107 q321 rfl (by decide +kernel) rfl ⟨⟨Nat.le_of_ble_eq_true rfl, Nat.le_of_ble_eq_true rfl⟩, ⟨(Nat.le_of_ble_eq_true rfl), (Nat.le_of_ble_eq_true rfl)⟩⟩ (Nat.le_of_ble_eq_true rfl) hl.1 rfl dX9_from_107 cX_no (fun r19 σ19 H locs hp19 hW => ?_)
                  obtain ⟨rfl, B9, hσ9, hP9⟩ := hp19
                  refine W.eq (g2 := F0 m_ 110 ls ([])) rfl ?_
                  refine lv_iinc (k := 4) (v := (nI (k + 1))) (lv' := [(2, .int (nI (k + 1))), (4, .int (bI (use v s c k))), (3, .ref (L (100 + k))), (0, .ref h), (1, .int (nI t))]) F.x F.cd dX9_from_110 hl rfl (inc_nI k 1) (by decide) rfl (fun ls hl => ?_)
                  refine lv_goto (tgt := 9) F.x F.cd dX9_from_113 (by decide) ?_
                  exact ih9 (k + 1) σ19 B9 (by omega) (by rw [hσ9, hσk, sset_sset]) (hWI.step hI (by omega) c_77 c_85 hP9) H locs ls hW (lv_sub hl [3, 4, 0] rfl)
          · refine lv_aload_n F.x F.cd dX9_from_57 rfl (lv_at hl 0 rfl) ?_
            refine s_getN F hW (ci := 9) (C := RX5) (T := TX5) (N := 7) (v := .int (nI (pV v k))) ((hWn.2.2.2.2.2.1 k (by omega)).1) rfl in_X5 3 (by decide) q1078 (fun _ h9 => h9) rfl dX9_from_58 ?_
            refine lv_aload_n F.x F.cd dX9_from_61 rfl (lv_at hl 1 rfl) ?_
            refine s_get F hW (ci := 12) (C := RX9) (T := TX9) (N := 4) (v := .int (nI s)) (e0n) rfl in_X9 1 (by decide) q303 (fun _ h9 => h9) rfl dX9_from_62 ?_
            refine n_icmp_lt (a := pV v k) (b := s) (tgt := 72) F (by omega) (by omega) dX9_from_65 (by decide) (fun c_65 => ?_) (fun c_65 => ?_)
            · refine lv_iconst (v := (nI 0)) F.x F.cd dX9_from_72 (by decide) ?_
              refine W.eq (g2 := F0 m_ 73 ls (.int (bI (use v s c k)) :: [])) (by rw [show use v s c k = false by first | (simp [use, c_47, c_54, c_65]; done) | (simp [use, c_47, c_54, c_65]; omega)]; rfl) ?_
              refine lv_istore (lv' := [(4, .int (bI (use v s c k))), (3, .ref (L (100 + k))), (0, .ref h), (1, .int (nI t)), (2, .int (nI k))]) F.x F.cd dX9_from_73 hl (by decide) rfl (fun ls hl => ?_)
              refine lv_iload F.x F.cd dX9_from_75 (lv_at hl 0 rfl) ?_
              refine b_if_eq (b := (use v s c k)) (tgt := 110) F dX9_from_77 (by decide) (fun c_77 => ?_) (fun c_77 => ?_)
              · refine lv_iinc (k := 4) (v := (nI (k + 1))) (lv' := [(2, .int (nI (k + 1))), (4, .int (bI (use v s c k))), (3, .ref (L (100 + k))), (0, .ref h), (1, .int (nI t))]) F.x F.cd dX9_from_110 hl rfl (inc_nI k 1) (by decide) rfl (fun ls hl => ?_)
                refine lv_goto (tgt := 9) F.x F.cd dX9_from_113 (by decide) ?_
                exact ih9 (k + 1) σk Bk (by omega) (hσk) (hWI.skip (Or.inl c_77)) H locs ls hW (lv_sub hl [3, 4, 0] rfl)
              · refine lv_aload_n F.x F.cd dX9_from_80 rfl (lv_at hl 1 rfl) ?_
                refine lv_iload_n F.x F.cd dX9_from_81 rfl (lv_at hl 3 rfl) ?_
                refine s_callV (As := [.int (nI t)]) (rest := []) (C := RX5) (T := TX5) (N := 7) (n := 1) F hW (k_X5_touches g l σk (L (100 + k)) (pA v k) (pB v k) (pM v k) (pV v k) (pR v k) (pD v k) (pL v k) t ((hWn.2.2.2.2.2.1 k (by omega)).1) (by omega) (by omega) (by omega)) ((hWn.2.2.2.2.2.1 k (by omega)).1) rfl q675 q676 q677 q96 q678 rfl (by decide +kernel) rfl ⟨⟨Nat.le_of_ble_eq_true rfl, Nat.le_of_ble_eq_true rfl⟩, ⟨(Nat.le_of_ble_eq_true rfl), (Nat.le_of_ble_eq_true rfl)⟩⟩ (Nat.le_of_ble_eq_true rfl) hl.1 rfl dX9_from_82 cX_no (fun r20 σ20 H locs hp20 hW => ?_)
                obtain ⟨rfl, hs20⟩ := hp20
                rw [hs20] at hW
                refine W.eq (g2 := F0 m_ 85 ls (.int (bI (tch (pA v k) (pB v k) t)) :: [])) rfl ?_
                refine b_if_eq (b := (tch (pA v k) (pB v k) t)) (tgt := 110) F dX9_from_85 (by decide) (fun c_85 => ?_) (fun c_85 => ?_)
                · refine lv_iinc (k := 4) (v := (nI (k + 1))) (lv' := [(2, .int (nI (k + 1))), (4, .int (bI (use v s c k))), (3, .ref (L (100 + k))), (0, .ref h), (1, .int (nI t))]) F.x F.cd dX9_from_110 hl rfl (inc_nI k 1) (by decide) rfl (fun ls hl => ?_)
                  refine lv_goto (tgt := 9) F.x F.cd dX9_from_113 (by decide) ?_
                  exact ih9 (k + 1) σk Bk (by omega) (hσk) (hWI.skip (Or.inr (Or.inl c_85))) H locs ls hW (lv_sub hl [3, 4, 0] rfl)
                · refine lv_aload_n F.x F.cd dX9_from_88 rfl (lv_at hl 2 rfl) ?_
                  refine s_get F hW (ci := 12) (C := RX9) (T := TX9) (N := 4) (v := .ref ar) (e0n) rfl in_X9 0 (by decide) q301 (fun _ h9 => h9) rfl dX9_from_89 ?_
                  refine lv_aload_n F.x F.cd dX9_from_92 rfl (lv_at hl 1 rfl) ?_
                  refine lv_iload_n F.x F.cd dX9_from_93 rfl (lv_at hl 3 rfl) ?_
                  refine s_callV (As := [.int (nI t)]) (rest := [.ref ar]) (C := RX5) (T := TX5) (N := 7) (n := 1) F hW (k_X5_otherEnd g l σk (L (100 + k)) (pA v k) (pB v k) (pM v k) (pV v k) (pR v k) (pD v k) (pL v k) t ((hWn.2.2.2.2.2.1 k (by omega)).1) (by omega) (by omega)) ((hWn.2.2.2.2.2.1 k (by omega)).1) rfl q679 q680 q681 q96 q682 rfl (by decide +kernel) rfl ⟨⟨Nat.le_of_ble_eq_true rfl, Nat.le_of_ble_eq_true rfl⟩, ⟨(Nat.le_of_ble_eq_true rfl), (Nat.le_of_ble_eq_true rfl)⟩⟩ (Nat.le_of_ble_eq_true rfl) hl.1 rfl dX9_from_94 cX_no (fun r21 σ21 H locs hp21 hW => ?_)
                  obtain ⟨rfl, hs21⟩ := hp21
                  rw [hs21] at hW
                  refine W.eq (g2 := F0 m_ 97 ls (.int (nI (oth (pA v k) (pB v k) t)) :: .ref ar :: [])) rfl ?_
                  refine n_zald (i := oth (pA v k) (pB v k) t) (n := 8) (f := (fun x9 => bI (Bk x9))) (x := (bI (Bk (oth (pA v k) (pB v k) t)))) F hW (ean) (Nat.lt_of_lt_of_le (oth_lt hpq.1 hpq.2.1) hI.1) (by omega) (rfl) dX9_from_97 ?_
                  refine b_if_ne (b := (Bk (oth (pA v k) (pB v k) t))) (tgt := 110) F dX9_from_98 (by decide) (fun c_98 => ?_) (fun c_98 => ?_)
                  · refine lv_iinc (k := 4) (v := (nI (k + 1))) (lv' := [(2, .int (nI (k + 1))), (4, .int (bI (use v s c k))), (3, .ref (L (100 + k))), (0, .ref h), (1, .int (nI t))]) F.x F.cd dX9_from_110 hl rfl (inc_nI k 1) (by decide) rfl (fun ls hl => ?_)
                    refine lv_goto (tgt := 9) F.x F.cd dX9_from_113 (by decide) ?_
                    exact ih9 (k + 1) σk Bk (by omega) (hσk) (hWI.skip (Or.inr (Or.inr c_98))) H locs ls hW (lv_sub hl [3, 4, 0] rfl)
                  · refine lv_aload_n F.x F.cd dX9_from_101 rfl (lv_at hl 2 rfl) ?_
                    refine lv_aload_n F.x F.cd dX9_from_102 rfl (lv_at hl 1 rfl) ?_
                    refine lv_iload_n F.x F.cd dX9_from_103 rfl (lv_at hl 3 rfl) ?_
                    refine s_callV (As := [.int (nI t)]) (rest := [.ref h]) (C := RX5) (T := TX5) (N := 7) (n := 1) F hW (k_X5_otherEnd g l σk (L (100 + k)) (pA v k) (pB v k) (pM v k) (pV v k) (pR v k) (pD v k) (pL v k) t ((hWn.2.2.2.2.2.1 k (by omega)).1) (by omega) (by omega)) ((hWn.2.2.2.2.2.1 k (by omega)).1) rfl q679 q680 q681 q96 q682 rfl (by decide +kernel) rfl ⟨⟨Nat.le_of_ble_eq_true rfl, Nat.le_of_ble_eq_true rfl⟩, ⟨(Nat.le_of_ble_eq_true rfl), (Nat.le_of_ble_eq_true rfl)⟩⟩ (Nat.le_of_ble_eq_true rfl) hl.1 rfl dX9_from_104 cX_no (fun r22 σ22 H locs hp22 hW => ?_)
                    obtain ⟨rfl, hs22⟩ := hp22
                    rw [hs22] at hW
                    refine W.eq (g2 := F0 m_ 107 ls (.int (nI (oth (pA v k) (pB v k) t)) :: .ref h :: [])) rfl ?_
                    refine s_callV (As := [.int (nI (oth (pA v k) (pB v k) t))]) (rest := []) (C := RX9) (T := TX9) (N := 4) (n := 1) F hW (k_X9_from_7 g l σk L v h ar s (oth (pA v k) (pB v k) t) c Bk hWn hI e0n ean ba hs (oth_lt hpq.1 hpq.2.1) c_98 (by have := unvN_lt hWI.2.1 hR hWI.1 8 (by omega); unfold unv at hun ⊢; omega)) (e0n) rfl q683 q319 q320 q107 q321 rfl (by decide +kernel) rfl ⟨⟨Nat.le_of_ble_eq_true rfl, Nat.le_of_ble_eq_true rfl⟩, ⟨(Nat.le_of_ble_eq_true rfl), (Nat.le_of_ble_eq_true rfl)⟩⟩ (Nat.le_of_ble_eq_true rfl) hl.1 rfl dX9_from_107 cX_no (fun r23 σ23 H locs hp23 hW => ?_)
                    obtain ⟨rfl, B9, hσ9, hP9⟩ := hp23
                    refine W.eq (g2 := F0 m_ 110 ls ([])) rfl ?_
                    refine lv_iinc (k := 4) (v := (nI (k + 1))) (lv' := [(2, .int (nI (k + 1))), (4, .int (bI (use v s c k))), (3, .ref (L (100 + k))), (0, .ref h), (1, .int (nI t))]) F.x F.cd dX9_from_110 hl rfl (inc_nI k 1) (by decide) rfl (fun ls hl => ?_)
                    refine lv_goto (tgt := 9) F.x F.cd dX9_from_113 (by decide) ?_
                    exact ih9 (k + 1) σ23 B9 (by omega) (by rw [hσ9, hσk, sset_sset]) (hWI.step hI (by omega) c_77 c_85 hP9) H locs ls hW (lv_sub hl [3, 4, 0] rfl)
            · refine lv_iconst (v := (nI 1)) F.x F.cd dX9_from_68 (by decide) ?_
              refine lv_goto (tgt := 73) F.x F.cd dX9_from_69 (by decide) ?_
              refine W.eq (g2 := F0 m_ 73 ls (.int (bI (use v s c k)) :: [])) (by rw [show use v s c k = true by first | (simp [use, c_47, c_54, c_65]; done) | (simp [use, c_47, c_54, c_65]; omega)]; rfl) ?_
              refine lv_istore (lv' := [(4, .int (bI (use v s c k))), (3, .ref (L (100 + k))), (0, .ref h), (1, .int (nI t)), (2, .int (nI k))]) F.x F.cd dX9_from_73 hl (by decide) rfl (fun ls hl => ?_)
              refine lv_iload F.x F.cd dX9_from_75 (lv_at hl 0 rfl) ?_
              refine b_if_eq (b := (use v s c k)) (tgt := 110) F dX9_from_77 (by decide) (fun c_77 => ?_) (fun c_77 => ?_)
              · refine lv_iinc (k := 4) (v := (nI (k + 1))) (lv' := [(2, .int (nI (k + 1))), (4, .int (bI (use v s c k))), (3, .ref (L (100 + k))), (0, .ref h), (1, .int (nI t))]) F.x F.cd dX9_from_110 hl rfl (inc_nI k 1) (by decide) rfl (fun ls hl => ?_)
                refine lv_goto (tgt := 9) F.x F.cd dX9_from_113 (by decide) ?_
                exact ih9 (k + 1) σk Bk (by omega) (hσk) (hWI.skip (Or.inl c_77)) H locs ls hW (lv_sub hl [3, 4, 0] rfl)
              · refine lv_aload_n F.x F.cd dX9_from_80 rfl (lv_at hl 1 rfl) ?_
                refine lv_iload_n F.x F.cd dX9_from_81 rfl (lv_at hl 3 rfl) ?_
                refine s_callV (As := [.int (nI t)]) (rest := []) (C := RX5) (T := TX5) (N := 7) (n := 1) F hW (k_X5_touches g l σk (L (100 + k)) (pA v k) (pB v k) (pM v k) (pV v k) (pR v k) (pD v k) (pL v k) t ((hWn.2.2.2.2.2.1 k (by omega)).1) (by omega) (by omega) (by omega)) ((hWn.2.2.2.2.2.1 k (by omega)).1) rfl q675 q676 q677 q96 q678 rfl (by decide +kernel) rfl ⟨⟨Nat.le_of_ble_eq_true rfl, Nat.le_of_ble_eq_true rfl⟩, ⟨(Nat.le_of_ble_eq_true rfl), (Nat.le_of_ble_eq_true rfl)⟩⟩ (Nat.le_of_ble_eq_true rfl) hl.1 rfl dX9_from_82 cX_no (fun r24 σ24 H locs hp24 hW => ?_)
                obtain ⟨rfl, hs24⟩ := hp24
                rw [hs24] at hW
                refine W.eq (g2 := F0 m_ 85 ls (.int (bI (tch (pA v k) (pB v k) t)) :: [])) rfl ?_
                refine b_if_eq (b := (tch (pA v k) (pB v k) t)) (tgt := 110) F dX9_from_85 (by decide) (fun c_85 => ?_) (fun c_85 => ?_)
                · refine lv_iinc (k := 4) (v := (nI (k + 1))) (lv' := [(2, .int (nI (k + 1))), (4, .int (bI (use v s c k))), (3, .ref (L (100 + k))), (0, .ref h), (1, .int (nI t))]) F.x F.cd dX9_from_110 hl rfl (inc_nI k 1) (by decide) rfl (fun ls hl => ?_)
                  refine lv_goto (tgt := 9) F.x F.cd dX9_from_113 (by decide) ?_
                  exact ih9 (k + 1) σk Bk (by omega) (hσk) (hWI.skip (Or.inr (Or.inl c_85))) H locs ls hW (lv_sub hl [3, 4, 0] rfl)
                · refine lv_aload_n F.x F.cd dX9_from_88 rfl (lv_at hl 2 rfl) ?_
                  refine s_get F hW (ci := 12) (C := RX9) (T := TX9) (N := 4) (v := .ref ar) (e0n) rfl in_X9 0 (by decide) q301 (fun _ h9 => h9) rfl dX9_from_89 ?_
                  refine lv_aload_n F.x F.cd dX9_from_92 rfl (lv_at hl 1 rfl) ?_
                  refine lv_iload_n F.x F.cd dX9_from_93 rfl (lv_at hl 3 rfl) ?_
                  refine s_callV (As := [.int (nI t)]) (rest := [.ref ar]) (C := RX5) (T := TX5) (N := 7) (n := 1) F hW (k_X5_otherEnd g l σk (L (100 + k)) (pA v k) (pB v k) (pM v k) (pV v k) (pR v k) (pD v k) (pL v k) t ((hWn.2.2.2.2.2.1 k (by omega)).1) (by omega) (by omega)) ((hWn.2.2.2.2.2.1 k (by omega)).1) rfl q679 q680 q681 q96 q682 rfl (by decide +kernel) rfl ⟨⟨Nat.le_of_ble_eq_true rfl, Nat.le_of_ble_eq_true rfl⟩, ⟨(Nat.le_of_ble_eq_true rfl), (Nat.le_of_ble_eq_true rfl)⟩⟩ (Nat.le_of_ble_eq_true rfl) hl.1 rfl dX9_from_94 cX_no (fun r25 σ25 H locs hp25 hW => ?_)
                  obtain ⟨rfl, hs25⟩ := hp25
                  rw [hs25] at hW
                  refine W.eq (g2 := F0 m_ 97 ls (.int (nI (oth (pA v k) (pB v k) t)) :: .ref ar :: [])) rfl ?_
                  refine n_zald (i := oth (pA v k) (pB v k) t) (n := 8) (f := (fun x9 => bI (Bk x9))) (x := (bI (Bk (oth (pA v k) (pB v k) t)))) F hW (ean) (Nat.lt_of_lt_of_le (oth_lt hpq.1 hpq.2.1) hI.1) (by omega) (rfl) dX9_from_97 ?_
                  refine b_if_ne (b := (Bk (oth (pA v k) (pB v k) t))) (tgt := 110) F dX9_from_98 (by decide) (fun c_98 => ?_) (fun c_98 => ?_)
                  · refine lv_iinc (k := 4) (v := (nI (k + 1))) (lv' := [(2, .int (nI (k + 1))), (4, .int (bI (use v s c k))), (3, .ref (L (100 + k))), (0, .ref h), (1, .int (nI t))]) F.x F.cd dX9_from_110 hl rfl (inc_nI k 1) (by decide) rfl (fun ls hl => ?_)
                    refine lv_goto (tgt := 9) F.x F.cd dX9_from_113 (by decide) ?_
                    exact ih9 (k + 1) σk Bk (by omega) (hσk) (hWI.skip (Or.inr (Or.inr c_98))) H locs ls hW (lv_sub hl [3, 4, 0] rfl)
                  · refine lv_aload_n F.x F.cd dX9_from_101 rfl (lv_at hl 2 rfl) ?_
                    refine lv_aload_n F.x F.cd dX9_from_102 rfl (lv_at hl 1 rfl) ?_
                    refine lv_iload_n F.x F.cd dX9_from_103 rfl (lv_at hl 3 rfl) ?_
                    refine s_callV (As := [.int (nI t)]) (rest := [.ref h]) (C := RX5) (T := TX5) (N := 7) (n := 1) F hW (k_X5_otherEnd g l σk (L (100 + k)) (pA v k) (pB v k) (pM v k) (pV v k) (pR v k) (pD v k) (pL v k) t ((hWn.2.2.2.2.2.1 k (by omega)).1) (by omega) (by omega)) ((hWn.2.2.2.2.2.1 k (by omega)).1) rfl q679 q680 q681 q96 q682 rfl (by decide +kernel) rfl ⟨⟨Nat.le_of_ble_eq_true rfl, Nat.le_of_ble_eq_true rfl⟩, ⟨(Nat.le_of_ble_eq_true rfl), (Nat.le_of_ble_eq_true rfl)⟩⟩ (Nat.le_of_ble_eq_true rfl) hl.1 rfl dX9_from_104 cX_no (fun r26 σ26 H locs hp26 hW => ?_)
                    obtain ⟨rfl, hs26⟩ := hp26
                    rw [hs26] at hW
                    refine W.eq (g2 := F0 m_ 107 ls (.int (nI (oth (pA v k) (pB v k) t)) :: .ref h :: [])) rfl ?_
                    refine s_callV (As := [.int (nI (oth (pA v k) (pB v k) t))]) (rest := []) (C := RX9) (T := TX9) (N := 4) (n := 1) F hW (k_X9_from_7 g l σk L v h ar s (oth (pA v k) (pB v k) t) c Bk hWn hI e0n ean ba hs (oth_lt hpq.1 hpq.2.1) c_98 (by have := unvN_lt hWI.2.1 hR hWI.1 8 (by omega); unfold unv at hun ⊢; omega)) (e0n) rfl q683 q319 q320 q107 q321 rfl (by decide +kernel) rfl ⟨⟨Nat.le_of_ble_eq_true rfl, Nat.le_of_ble_eq_true rfl⟩, ⟨(Nat.le_of_ble_eq_true rfl), (Nat.le_of_ble_eq_true rfl)⟩⟩ (Nat.le_of_ble_eq_true rfl) hl.1 rfl dX9_from_107 cX_no (fun r27 σ27 H locs hp27 hW => ?_)
                    obtain ⟨rfl, B9, hσ9, hP9⟩ := hp27
                    refine W.eq (g2 := F0 m_ 110 ls ([])) rfl ?_
                    refine lv_iinc (k := 4) (v := (nI (k + 1))) (lv' := [(2, .int (nI (k + 1))), (4, .int (bI (use v s c k))), (3, .ref (L (100 + k))), (0, .ref h), (1, .int (nI t))]) F.x F.cd dX9_from_110 hl rfl (inc_nI k 1) (by decide) rfl (fun ls hl => ?_)
                    refine lv_goto (tgt := 9) F.x F.cd dX9_from_113 (by decide) ?_
                    exact ih9 (k + 1) σ27 B9 (by omega) (by rw [hσ9, hσk, sset_sset]) (hWI.step hI (by omega) c_77 c_85 hP9) H locs ls hW (lv_sub hl [3, 4, 0] rfl)
  exact loop9 (v 1) 0 _ _ (by omega) (hσ0) (WI.start) H locs ls hW (lv_sub hl [1, 2, 0] rfl)
