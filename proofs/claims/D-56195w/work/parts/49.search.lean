/-! ===== reach ===== -/
set_option maxRecDepth 100000
set_option maxHeartbeats 4000000 in
theorem k_X2_reach (g : Gh) (l : Launch) (σ : Sto) (L v : Nat → Nat) (a : Nat) (hWk : IsWorks g σ L v) (hI : Inv v) (ha : a < v 0) : Ct g l yX2_reach cX2_reach 10 (some (.object "FilterWaterworks$Reach")) ({ frames := 3, cells := 3, slots := 2082, locals := 64 } : Room) [.ref (L 0), .int (nI a)] σ (fun r σ' => ∃ (q ba : Nat) (f : Nat → Int64), r = some (.ref q) ∧ σ' q = some (.inr (14, [.int (nI (tI v a)), .ref ba])) ∧ σ' ba = some (eL g (4 * v 0) f) ∧ Ext σ σ' ∧ ∀ t x, x < 256 → (rhas f t x = true ↔ RC v a (tI v a) t x)) (nox) := by
  refine Ct.body (by decide) (Nat.le_of_ble_eq_true rfl) ?_
  intro p_ e_ s_ m_ args_ below_ meth_ c_ ls H locs Q F hW hl hQ
  have hl : lv_has ls 10 [(0, .ref (L 0)), (1, .int (nI a))] := hl
  have hT := hWk.2.2.1
  have hP := hWk.2.2.2.1
  obtain ⟨mcT, nT, fT, eT, bT, -⟩ := id hT
  obtain ⟨mcP, nP, fP, eP, bP, -⟩ := id hP
  have hv0 := hI.1
  have hv1 := hI.2.1
  have hst0 := (hI.tk ha).2.2.2
  refine s_new F hW 14 (C := RX11) (T := TX11) (N := 2) (fs := [.int (nI 0), .null]) rfl in_X11 tyX11_ok q861 q862 q109 (fun j hj => by rcases (show j = 0 ∨ j = 1 by omega) with rfl | rfl <;> rfl) (Nat.le_of_ble_eq_true rfl) (Nat.le_of_ble_eq_true rfl) dX2_reach_0 (fun q1_ H hb_q1_ hn_q1_ hW => ?_)
  obtain ⟨σ2, hσ2⟩ : ∃ z, z = sset σ q1_ (.inr (14, [.int (nI 0), .null])) := ⟨_, rfl⟩
  have hW : Hl g σ2 H locs := by rw [hσ2]; exact hW
  have w2 : σ2 q1_ = some (.inr (14, [.int (nI 0), .null])) := by rw [hσ2]; exact sset_eq
  have f3 : σ2 (L 0) = some (.inr (1, [.ref (L 1), .ref (L 2), .int (nI (v 2)), .int (nI (v 3)), .int (nI (v 4)), .int (nI (v 5))])) := by rw [hσ2, sset_ne (sto_ne0 hn_q1_ hWk.1)]; exact hWk.1
  have f4 : σ2 (L 1) = some (.inr (2, [.int mcT, .ref (L 3), .int (nI (v 0))])) := by rw [hσ2, sset_ne (sto_ne0 hn_q1_ eT)]; exact eT
  have j5 := IsList.new (e := .inr (14, [.int (nI 0), .null])) (hT) (hn_q1_)
  rw [← hσ2] at j5
  have f6 : σ2 (L 2) = some (.inr (2, [.int mcP, .ref (L 4), .int (nI (v 1))])) := by rw [hσ2, sset_ne (sto_ne0 hn_q1_ eP)]; exact eP
  have j7 := IsList.new (e := .inr (14, [.int (nI 0), .null])) (hP) (hn_q1_)
  rw [← hσ2] at j7
  refine lv_dup F.x F.cd dX2_reach_3 rfl ?_
  have hWa : IsWorks g σ2 L v := by rw [hσ2]; exact hWk.new hn_q1_
  have hT_a := hWa.2.2.1
  have hP_a := hWa.2.2.2.1
  obtain ⟨mcT_a, nT_a, fT_a, eT_a, bT_a, -⟩ := id hT_a
  obtain ⟨mcP_a, nP_a, fP_a, eP_a, bP_a, -⟩ := id hP_a
  have hv0_a := hI.1
  have hv1_a := hI.2.1
  refine lv_aload_n F.x F.cd dX2_reach_4 rfl (lv_at hl 0 rfl) ?_
  refine s_get F hW (ci := 1) (C := RX2) (T := TX2) (N := 6) (v := .ref (L 1)) (hWa.1) rfl in_X2 0 (by decide) q159 (fun _ h9 => h9) rfl dX2_reach_5 ?_
  refine s_callF (As := []) (rest := [.ref q1_, .ref q1_]) (C := RJ2) (T := TJ2) (N := 3) (n := 0) F hW (k_J2_size g l σ2 _ _ _ _ hT_a) (eT_a) rfl (List.mem_of_getElem? (i := 0) rfl) q317 q272 q274 q72 q276 (by decide +kernel) rfl ⟨⟨Nat.le_of_ble_eq_true rfl, Nat.le_of_ble_eq_true rfl⟩, ⟨(Nat.le_of_ble_eq_true rfl), (Nat.le_of_ble_eq_true rfl)⟩⟩ (Nat.le_of_ble_eq_true rfl) hl.1 rfl dX2_reach_8 cX_no (fun r8 σ8 H locs hp8 hW => ?_)
  obtain ⟨rfl, hs8⟩ := hp8
  rw [hs8] at hW
  refine W.eq (g2 := F0 m_ 13 ls (.int (nI (v 0)) :: .ref q1_ :: .ref q1_ :: [])) rfl ?_
  refine lv_aload_n F.x F.cd dX2_reach_13 rfl (lv_at hl 0 rfl) ?_
  refine s_get F hW (ci := 1) (C := RX2) (T := TX2) (N := 6) (v := .ref (L 1)) (hWa.1) rfl in_X2 0 (by decide) q159 (fun _ h9 => h9) rfl dX2_reach_14 ?_
  refine lv_iload_n F.x F.cd dX2_reach_17 rfl (lv_at hl 1 rfl) ?_
  refine s_callF (As := [.int (nI a)]) (rest := [.int (nI (v 0)), .ref q1_, .ref q1_]) (C := RJ2) (T := TJ2) (N := 3) (n := 1) F hW (k_J2_get g l σ2 _ _ _ _ a hT_a (by omega)) (eT_a) rfl (List.mem_of_getElem? (i := 1) rfl) q693 q328 q330 q72 q332 (by decide +kernel) rfl ⟨⟨Nat.le_of_ble_eq_true rfl, Nat.le_of_ble_eq_true rfl⟩, ⟨(Nat.le_of_ble_eq_true rfl), (Nat.le_of_ble_eq_true rfl)⟩⟩ (Nat.le_of_ble_eq_true rfl) hl.1 rfl dX2_reach_18 cX_no (fun r9 σ9 H locs hp9 hW => ?_)
  obtain ⟨rfl, hs9⟩ := hp9
  rw [hs9] at hW
  refine W.eq (g2 := F0 m_ 23 ls (.ref (L (10 + a)) :: .int (nI (v 0)) :: .ref q1_ :: .ref q1_ :: [])) rfl ?_
  refine s_cast_ F hW (C := RX4) (T := TX4) (N := 3) ((hWa.2.2.2.2.1 a (by omega)).1) rfl q790 dX2_reach_23 ?_
  refine s_getN F hW (ci := 8) (C := RX4) (T := TX4) (N := 3) (v := .int (nI (tI v a))) ((hWa.2.2.2.2.1 a (by omega)).1) rfl in_X4 2 (by decide) q954 (fun _ h9 => h9) rfl dX2_reach_26 ?_
  refine s_callI (As := [.int (nI (v 0)), .int (nI (tI v a))]) (rest := [.ref q1_]) (n := 2) F hW (k_X11_init g l σ2 q1_ (v 0) (tI v a) (w2) (hb_q1_) (by omega)) q863 q864 q109 q865 rfl (by decide +kernel) rfl ⟨⟨Nat.le_of_ble_eq_true rfl, Nat.le_of_ble_eq_true rfl⟩, ⟨(Nat.le_of_ble_eq_true rfl), (Nat.le_of_ble_eq_true rfl)⟩⟩ (Nat.le_of_ble_eq_true rfl) hl.1 rfl dX2_reach_29 cX_no (fun r10 σ10 H locs hp10 hW => ?_)
  obtain ⟨rfl, ba, hna, hba, hro, hra, hXr⟩ := hp10
  refine W.eq (g2 := F0 m_ 32 ls (.ref q1_ :: [])) rfl ?_
  have hXt : Ext σ σ10 := fun a9 ha9 => by
    have hq9 : a9 ≠ q1_ := by rintro rfl; exact ha9 hn_q1_
    rw [hXr a9 (by rw [hσ2, sset_ne hq9]; exact ha9) hq9, hσ2, sset_ne hq9]
  have hat : σ ba = none := by
    by_cases hq9 : ba = q1_
    · rw [hq9]; exact hn_q1_
    · rw [hσ2, sset_ne hq9] at hna; exact hna
  have hWs := hWk.ext hXt
  have hst : tI v a < 256 := (hI.tk ha).2.2.2
  refine lv_astore_n (lv' := [(2, .ref q1_), (0, .ref (L 0)), (1, .int (nI a))]) F.x F.cd dX2_reach_32 rfl hl (by decide) rfl (fun ls hl => ?_)
  refine lv_aload_n F.x F.cd dX2_reach_33 rfl (lv_at hl 0 rfl) ?_
  refine s_callV (As := []) (rest := []) (C := RX11) (T := TX11) (N := 2) (n := 0) F hW (k_X11_states g l σ10 q1_ ba (v 0) (tI v a) (fun _ => 0) (hro) (hra) (by omega) (by omega)) (hro) rfl q876 q877 q878 q109 q879 rfl (by decide +kernel) rfl ⟨⟨Nat.le_of_ble_eq_true rfl, Nat.le_of_ble_eq_true rfl⟩, ⟨(Nat.le_of_ble_eq_true rfl), (Nat.le_of_ble_eq_true rfl)⟩⟩ (Nat.le_of_ble_eq_true rfl) hl.1 rfl dX2_reach_34 cX_no (fun r11 σ11 H locs hp11 hW => ?_)
  obtain ⟨rfl, hs11⟩ := hp11
  rw [hs11] at hW
  refine W.eq (g2 := F0 m_ 37 ls (.int (nI (v 0 * 2 ^ pops (tI v a))) :: [])) rfl ?_
  have hsz : v 0 * 2 ^ pops (tI v a) ≤ 2048 := by
    have h1 : 2 ^ pops (tI v a) ≤ 2 ^ 8 := Nat.pow_le_pow_right (by decide) (pops_lt _ hst)
    exact Nat.le_trans (Nat.mul_le_mul hI.1 h1) (by decide)
  have hsz0 : 0 < v 0 * 2 ^ pops (tI v a) := Nat.mul_pos (by omega) (Nat.pow_pos (by decide))
  refine s_newa F hW 0 (N := v 0 * 2 ^ pops (tI v a)) (atype := .int) (ty := .int) rfl rfl rfl q699 (v 0 * 2 ^ pops (tI v a), .inl (fun _ => 0)) rfl (nI_pos (by omega)) (nI_clamp (by omega)) (by show _ * 4 ≤ _; omega) (Nat.le_of_ble_eq_true rfl) (Nat.le_trans (m := 2082) (by show 34 + v 0 * 2 ^ pops (tI v a) ≤ _; omega) (Nat.le_of_ble_eq_true rfl)) dX2_reach_37 (fun q12_ H hb_q12_ hn_q12_ hW => ?_)
  refine W.widen (k := 3) (n := 2082) (Nat.le_of_ble_eq_true rfl) (by show 34 + v 0 * 2 ^ pops (tI v a) ≤ _; omega) ?_
  obtain ⟨σ13, hσ13⟩ : ∃ z, z = sset σ10 q12_ (eI g 0 (v 0 * 2 ^ pops (tI v a)) (fun x9 => nI ((fun _ => 0) x9))) := ⟨_, rfl⟩
  have hW : Hl g σ13 H locs := by rw [hσ13]; exact hW
  have w13 : σ13 q12_ = some (eI g 0 (v 0 * 2 ^ pops (tI v a)) (fun x9 => nI ((fun _ => 0) x9))) := by rw [hσ13]; exact sset_eq
  have f14 : σ13 q1_ = some (.inr (14, [.int (nI (tI v a)), .ref ba])) := by rw [hσ13, sset_ne (sto_ne0 hn_q12_ hro)]; exact hro
  have f15 : σ13 ba = some (eL g (4 * v 0) (fun _ => 0)) := by rw [hσ13, sset_ne (sto_ne0 hn_q12_ hra)]; exact hra
  refine lv_astore_n (lv' := [(3, .ref q12_), (2, .ref q1_), (0, .ref (L 0)), (1, .int (nI a))]) F.x F.cd dX2_reach_39 rfl hl (by decide) rfl (fun ls hl => ?_)
  have hxq : σ q12_ = none := hXt.none hn_q12_
  have hX4 : Ext σ σ13 := by rw [hσ13]; exact hXt.set hxq
  have hbq : ba ≠ q12_ := sto_ne0 hn_q12_ hra
  refine lv_iconst (v := (nI 0)) F.x F.cd dX2_reach_40 (by decide) ?_
  refine lv_istore (lv' := [(4, .int (nI 0)), (3, .ref q12_), (2, .ref q1_), (0, .ref (L 0)), (1, .int (nI a))]) F.x F.cd dX2_reach_41 hl (by decide) rfl (fun ls hl => ?_)
  refine lv_aload_n F.x F.cd dX2_reach_43 rfl (lv_at hl 2 rfl) ?_
  refine lv_iload_n F.x F.cd dX2_reach_44 rfl (lv_at hl 4 rfl) ?_
  refine lv_aload_n F.x F.cd dX2_reach_45 rfl (lv_at hl 2 rfl) ?_
  refine s_getN F hW (ci := 14) (C := RX11) (T := TX11) (N := 2) (v := .int (nI (tI v a))) (f14) rfl in_X11 0 (by decide) q868 (fun _ h9 => h9) rfl dX2_reach_46 ?_
  refine s_callV (As := [.int (nI a), .int (nI (tI v a))]) (rest := []) (C := RX11) (T := TX11) (N := 2) (n := 2) F hW (k_X11_add g l σ13 q1_ ba (v 0) (tI v a) (fun _ => 0) a (tI v a) (f14) (f15) (by omega) (hba) (by first | omega | exact oth_lt hpq.1 hpq.2.1) (by first | omega | exact clr_lt (by omega))) (f14) rfl q882 q883 q884 q109 q885 rfl (by decide +kernel) rfl ⟨⟨Nat.le_of_ble_eq_true rfl, Nat.le_of_ble_eq_true rfl⟩, ⟨(Nat.le_of_ble_eq_true rfl), (Nat.le_of_ble_eq_true rfl)⟩⟩ (Nat.le_of_ble_eq_true rfl) hl.1 rfl dX2_reach_49 cX_no (fun r16 σ16 H locs hp16 hW => ?_)
  obtain ⟨rfl, hσ16⟩ := hp16
  refine W.eq (g2 := F0 m_ 52 ls (.int (bI (!rhas (fun _ => 0) a (tI v a))) :: [])) rfl ?_
  have w17 : σ16 ba = some (eL g (4 * v 0) (radd (fun _ => 0) a (tI v a))) := by rw [hσ16]; exact sset_eq
  have f18 : σ16 q1_ = some (.inr (14, [.int (nI (tI v a)), .ref ba])) := by rw [hσ16, sset_ne (sto_ne f15 f14 (by simp))]; exact f14
  have f19 : σ16 q12_ = some (eI g 0 (v 0 * 2 ^ pops (tI v a)) (fun x9 => nI ((fun _ => 0) x9))) := by rw [hσ16, sset_ne (Ne.symm (sto_ne0 hn_q12_ hra))]; exact w13
  refine lv_pop F.x F.cd dX2_reach_52 rfl ?_
  refine lv_aload_n F.x F.cd dX2_reach_53 rfl (lv_at hl 1 rfl) ?_
  refine lv_iload F.x F.cd dX2_reach_54 (lv_at hl 0 rfl) ?_
  refine lv_sipush (v := (nI 256)) F.x F.cd dX2_reach_56 (by decide) ?_
  refine lv_iload_n F.x F.cd dX2_reach_59 rfl (lv_at hl 4 rfl) ?_
  refine a_imul (v := (nI (256 * a))) F (pk_mul _ _) dX2_reach_60 ?_
  refine lv_aload_n F.x F.cd dX2_reach_61 rfl (lv_at hl 2 rfl) ?_
  refine s_getN F hW (ci := 14) (C := RX11) (T := TX11) (N := 2) (v := .int (nI (tI v a))) (f18) rfl in_X11 0 (by decide) q868 (fun _ h9 => h9) rfl dX2_reach_62 ?_
  refine a_iadd (v := (nI (256 * a + (tI v a)))) F (nI_add _ _) dX2_reach_65 ?_
  refine n_iastN (i := 0) F hW (f19) (hb_q12_) (by omega) (by omega) dX2_reach_66 (fun H locs hW => ?_)
  obtain ⟨σ20, hσ20⟩ : ∃ z, z = sset σ16 q12_ (eI g 0 (v 0 * 2 ^ pops (tI v a)) (fun x9 => nI ((va_up (fun _ => 0) 0 (256 * a + (tI v a))) x9))) := ⟨_, rfl⟩
  have hW : Hl g σ20 H locs := by rw [hσ20]; exact hW
  have w20 : σ20 q12_ = some (eI g 0 (v 0 * 2 ^ pops (tI v a)) (fun x9 => nI ((va_up (fun _ => 0) 0 (256 * a + (tI v a))) x9))) := by rw [hσ20]; exact sset_eq
  have f21 : σ20 q1_ = some (.inr (14, [.int (nI (tI v a)), .ref ba])) := by rw [hσ20, sset_ne (sto_ne0 hn_q12_ hro)]; exact f18
  have f22 : σ20 ba = some (eL g (4 * v 0) (radd (fun _ => 0) a (tI v a))) := by rw [hσ20, sset_ne (sto_ne0 hn_q12_ hra)]; exact w17
  refine lv_iinc (k := 0) (v := (nI 1)) (lv' := [(4, .int (nI 1)), (3, .ref q12_), (2, .ref q1_), (0, .ref (L 0)), (1, .int (nI a))]) F.x F.cd dX2_reach_67 hl rfl (by decide) (by decide) rfl (fun ls hl => ?_)
  refine lv_iconst (v := (nI 0)) F.x F.cd dX2_reach_70 (by decide) ?_
  refine lv_istore (lv' := [(5, .int (nI 0)), (4, .int (nI 1)), (3, .ref q12_), (2, .ref q1_), (0, .ref (L 0)), (1, .int (nI a))]) F.x F.cd dX2_reach_71 hl (by decide) rfl (fun ls hl => ?_)
  have loop73 : ∀ (n : Nat) (c : Nat) (σk : Sto) (fk : Nat → Int64) (qk : Nat → Nat) (e : Nat), c + n = 2049 → Ext σ σk → σk q1_ = some (.inr (14, [.int (nI (tI v a)), .ref ba])) → σk ba = some (eL g (4 * v 0) fk) → σk q12_ = some (eI g 0 (v 0 * 2 ^ pops (tI v a)) (fun x9 => nI (qk x9))) → SO v a (tI v a) fk qk e c → ∀ (H : Heap) (locs : List Loc) (ls : Array Slot), Hl g σk H locs → lv_has ls 10 [(0, .ref (L 0)), (2, .ref q1_), (3, .ref q12_), (4, .int (nI e)), (5, .int (nI c))] → W p_ l e_ ({ frames := 3, cells := 3, slots := 2082, locals := 64 } : Room) s_ m_ args_ below_ meth_ c_ H locs 3 2082 Q (F0 m_ 73 ls ([])) := by
    intro n
    induction n with
    | zero =>
      intro c σk fk qk e hkn hXn e0n ebn eqn hSO H locs ls hW hl
      have hWn := hWk.ext hXn
      have hT_k := hWn.2.2.1
      have hP_k := hWn.2.2.2.1
      obtain ⟨mcT_k, nT_k, fT_k, eT_k, bT_k, -⟩ := id hT_k
      obtain ⟨mcP_k, nP_k, fP_k, eP_k, bP_k, -⟩ := id hP_k
      have hv0_k := hI.1
      have hv1_k := hI.2.1
      have heb := hSO.1.bound hst
      have hce := hSO.2.1
      exact absurd hce (by omega)
    | succ n ih73 =>
      intro c σk fk qk e hkn hXn e0n ebn eqn hSO H locs ls hW hl
      have hWn := hWk.ext hXn
      have hT_k := hWn.2.2.1
      have hP_k := hWn.2.2.2.1
      obtain ⟨mcT_k, nT_k, fT_k, eT_k, bT_k, -⟩ := id hT_k
      obtain ⟨mcP_k, nP_k, fP_k, eP_k, bP_k, -⟩ := id hP_k
      have hv0_k := hI.1
      have hv1_k := hI.2.1
      have heb := hSO.1.bound hst
      have hce := hSO.2.1
      refine lv_iload F.x F.cd dX2_reach_73 (lv_at hl 4 rfl) ?_
      refine lv_iload F.x F.cd dX2_reach_75 (lv_at hl 3 rfl) ?_
      refine n_icmp_ge (a := c) (b := e) (tgt := 216) F (by omega) (by omega) dX2_reach_77 (by decide) (fun c_77 => ?_) (fun c_77 => ?_)
      · refine lv_aload_n F.x F.cd dX2_reach_216 rfl (lv_at hl 1 rfl) ?_
        subst hQ
        exact s_reta F hW (Or.inl ⟨_, rfl⟩) (Or.inr ⟨_, rfl⟩) (⟨q1_, ba, fk, rfl, e0n, ebn, hXn, fun t x hx => SO.fin hst (by have h9 := hSO; rw [show c = e by omega] at h9; exact h9) hx⟩) ⟨(Nat.le_of_ble_eq_true rfl), (Nat.le_of_ble_eq_true rfl)⟩ dX2_reach_217
      · have hgo := hSO.go (show c < e by omega)
        have hqc := (hSO.1.2.2.1 c (by omega)).1
        refine lv_aload_n F.x F.cd dX2_reach_80 rfl (lv_at hl 2 rfl) ?_
        refine lv_iload F.x F.cd dX2_reach_81 (lv_at hl 4 rfl) ?_
        refine n_iald (i := c) (n := v 0 * 2 ^ pops (tI v a)) (f := (fun x9 => nI (qk x9))) (x := (nI (qk c))) F hW (eqn) (by omega) (by omega) (rfl) dX2_reach_83 ?_
        refine lv_sipush (v := (nI 256)) F.x F.cd dX2_reach_84 (by decide) ?_
        refine a_idiv (v := (nI (qk c / 256))) F (pk_div (by omega) (by omega) (by omega)) (by decide) dX2_reach_87 ?_
        refine lv_istore (lv' := [(6, .int (nI (qk c / 256))), (0, .ref (L 0)), (2, .ref q1_), (3, .ref q12_), (4, .int (nI e)), (5, .int (nI c))]) F.x F.cd dX2_reach_88 hl (by decide) rfl (fun ls hl => ?_)
        refine lv_iconst (v := (nI 0)) F.x F.cd dX2_reach_90 (by decide) ?_
        refine lv_istore (lv' := [(7, .int (nI 0)), (6, .int (nI (qk c / 256))), (0, .ref (L 0)), (2, .ref q1_), (3, .ref q12_), (4, .int (nI e)), (5, .int (nI c))]) F.x F.cd dX2_reach_91 hl (by decide) rfl (fun ls hl => ?_)
        have loop93 : ∀ (z : Nat) (k : Nat) (σj : Sto) (fj : Nat → Int64) (qj : Nat → Nat) (ej : Nat), k + z = v 1 → Ext σ σj → σj q1_ = some (.inr (14, [.int (nI (tI v a)), .ref ba])) → σj ba = some (eL g (4 * v 0) fj) → σj q12_ = some (eI g 0 (v 0 * 2 ^ pops (tI v a)) (fun x9 => nI (qj x9))) → SI v a (tI v a) fj qj ej c k → qj c = qk c → ∀ (H : Heap) (locs : List Loc) (ls : Array Slot), Hl g σj H locs → lv_has ls 10 [(0, .ref (L 0)), (2, .ref q1_), (3, .ref q12_), (4, .int (nI ej)), (5, .int (nI c)), (6, .int (nI (qk c / 256))), (7, .int (nI k))] → W p_ l e_ ({ frames := 3, cells := 3, slots := 2082, locals := 64 } : Room) s_ m_ args_ below_ meth_ c_ H locs 3 2082 Q (F0 m_ 93 ls ([])) := by
          intro z
          induction z with
          | zero =>
            intro k σj fj qj ej hkz hXn e0n ebn eqn hSI hqe H locs ls hW hl
            have hWn := hWk.ext hXn
            have hT_k := hWn.2.2.1
            have hP_k := hWn.2.2.2.1
            obtain ⟨mcT_k, nT_k, fT_k, eT_k, bT_k, -⟩ := id hT_k
            obtain ⟨mcP_k, nP_k, fP_k, eP_k, bP_k, -⟩ := id hP_k
            have hv0_k := hI.1
            have hv1_k := hI.2.1
            have heb := hSI.1.bound hst
            have hce := hSI.2.1
            refine lv_iload F.x F.cd dX2_reach_93 (lv_at hl 6 rfl) ?_
            refine lv_aload_n F.x F.cd dX2_reach_95 rfl (lv_at hl 0 rfl) ?_
            refine s_get F hW (ci := 1) (C := RX2) (T := TX2) (N := 6) (v := .ref (L 2)) (hWn.1) rfl in_X2 1 (by decide) q162 (fun _ h9 => h9) rfl dX2_reach_96 ?_
            refine s_callF (As := []) (rest := [.int (nI k)]) (C := RJ2) (T := TJ2) (N := 3) (n := 0) F hW (k_J2_size g l σj _ _ _ _ hP_k) (eP_k) rfl (List.mem_of_getElem? (i := 0) rfl) q317 q272 q274 q72 q276 (by decide +kernel) rfl ⟨⟨Nat.le_of_ble_eq_true rfl, Nat.le_of_ble_eq_true rfl⟩, ⟨(Nat.le_of_ble_eq_true rfl), (Nat.le_of_ble_eq_true rfl)⟩⟩ (Nat.le_of_ble_eq_true rfl) hl.1 rfl dX2_reach_99 cX_no (fun r23 σ23 H locs hp23 hW => ?_)
            obtain ⟨rfl, hs23⟩ := hp23
            rw [hs23] at hW
            refine W.eq (g2 := F0 m_ 104 ls (.int (nI (v 1)) :: .int (nI k) :: [])) rfl ?_
            refine n_icmp_ge (a := k) (b := v 1) (tgt := 210) F (by omega) (by omega) dX2_reach_104 (by decide) (fun c_104 => ?_) (fun c_104 => ?_)
            · refine lv_iinc (k := 4) (v := (nI (c + 1))) (lv' := [(5, .int (nI (c + 1))), (0, .ref (L 0)), (2, .ref q1_), (3, .ref q12_), (4, .int (nI ej)), (6, .int (nI (qk c / 256))), (7, .int (nI k))]) F.x F.cd dX2_reach_210 hl rfl (inc_nI c 1) (by decide) rfl (fun ls hl => ?_)
              refine lv_goto (tgt := 73) F.x F.cd dX2_reach_213 (by decide) ?_
              exact ih73 (c + 1) σj fj qj ej (by omega) (hXn) (e0n) (ebn) (eqn) (SI.done (by rw [← show k = v 1 by omega]; exact hSI)) H locs ls hW (lv_sub hl [1, 2, 3, 4, 0] rfl)
            · exact absurd c_104 (by omega)
          | succ z ih93 =>
            intro k σj fj qj ej hkz hXn e0n ebn eqn hSI hqe H locs ls hW hl
            have hWn := hWk.ext hXn
            have hT_k := hWn.2.2.1
            have hP_k := hWn.2.2.2.1
            obtain ⟨mcT_k, nT_k, fT_k, eT_k, bT_k, -⟩ := id hT_k
            obtain ⟨mcP_k, nP_k, fP_k, eP_k, bP_k, -⟩ := id hP_k
            have hv0_k := hI.1
            have hv1_k := hI.2.1
            have heb := hSI.1.bound hst
            have hce := hSI.2.1
            refine lv_iload F.x F.cd dX2_reach_93 (lv_at hl 6 rfl) ?_
            refine lv_aload_n F.x F.cd dX2_reach_95 rfl (lv_at hl 0 rfl) ?_
            refine s_get F hW (ci := 1) (C := RX2) (T := TX2) (N := 6) (v := .ref (L 2)) (hWn.1) rfl in_X2 1 (by decide) q162 (fun _ h9 => h9) rfl dX2_reach_96 ?_
            refine s_callF (As := []) (rest := [.int (nI k)]) (C := RJ2) (T := TJ2) (N := 3) (n := 0) F hW (k_J2_size g l σj _ _ _ _ hP_k) (eP_k) rfl (List.mem_of_getElem? (i := 0) rfl) q317 q272 q274 q72 q276 (by decide +kernel) rfl ⟨⟨Nat.le_of_ble_eq_true rfl, Nat.le_of_ble_eq_true rfl⟩, ⟨(Nat.le_of_ble_eq_true rfl), (Nat.le_of_ble_eq_true rfl)⟩⟩ (Nat.le_of_ble_eq_true rfl) hl.1 rfl dX2_reach_99 cX_no (fun r24 σ24 H locs hp24 hW => ?_)
            obtain ⟨rfl, hs24⟩ := hp24
            rw [hs24] at hW
            refine W.eq (g2 := F0 m_ 104 ls (.int (nI (v 1)) :: .int (nI k) :: [])) rfl ?_
            refine n_icmp_ge (a := k) (b := v 1) (tgt := 210) F (by omega) (by omega) dX2_reach_104 (by decide) (fun c_104 => ?_) (fun c_104 => ?_)
            · exact absurd c_104 (by omega)
            · have hpq := hI.pp (q := k) (by omega)
              have hqm := Nat.mod_lt (qk c) (show 256 > 0 by decide)
              have hqd : qk c / 256 < v 0 := by omega
              refine lv_aload_n F.x F.cd dX2_reach_107 rfl (lv_at hl 0 rfl) ?_
              refine s_get F hW (ci := 1) (C := RX2) (T := TX2) (N := 6) (v := .ref (L 2)) (hWn.1) rfl in_X2 1 (by decide) q162 (fun _ h9 => h9) rfl dX2_reach_108 ?_
              refine lv_iload F.x F.cd dX2_reach_111 (lv_at hl 6 rfl) ?_
              refine s_callF (As := [.int (nI k)]) (rest := []) (C := RJ2) (T := TJ2) (N := 3) (n := 1) F hW (k_J2_get g l σj _ _ _ _ k hP_k (by omega)) (eP_k) rfl (List.mem_of_getElem? (i := 1) rfl) q693 q328 q330 q72 q332 (by decide +kernel) rfl ⟨⟨Nat.le_of_ble_eq_true rfl, Nat.le_of_ble_eq_true rfl⟩, ⟨(Nat.le_of_ble_eq_true rfl), (Nat.le_of_ble_eq_true rfl)⟩⟩ (Nat.le_of_ble_eq_true rfl) hl.1 rfl dX2_reach_113 cX_no (fun r25 σ25 H locs hp25 hW => ?_)
              obtain ⟨rfl, hs25⟩ := hp25
              rw [hs25] at hW
              refine W.eq (g2 := F0 m_ 118 ls (.ref (L (100 + k)) :: [])) rfl ?_
              refine s_cast_ F hW (C := RX5) (T := TX5) (N := 7) ((hWn.2.2.2.2.2.1 k (by omega)).1) rfl q694 dX2_reach_118 ?_
              refine lv_aload_n F.x F.cd dX2_reach_121 rfl (lv_at hl 2 rfl) ?_
              refine lv_iload F.x F.cd dX2_reach_122 (lv_at hl 4 rfl) ?_
              refine n_iald (i := c) (n := v 0 * 2 ^ pops (tI v a)) (f := (fun x9 => nI (qj x9))) (x := (nI (qj c))) F hW (eqn) (by omega) (by omega) (rfl) dX2_reach_124 ?_
              refine lv_sipush (v := (nI 256)) F.x F.cd dX2_reach_125 (by decide) ?_
              refine a_irem (v := (nI (qk c % 256))) F (by rw [hqe]; exact pk_rem (by omega) (by omega) (by omega)) (by decide) dX2_reach_128 ?_
              refine s_callV (As := [.int (nI (qk c % 256))]) (rest := []) (C := RX5) (T := TX5) (N := 7) (n := 1) F hW (k_X5_cleaned g l σj (L (100 + k)) (pA v k) (pB v k) (pM v k) (pV v k) (pR v k) (pD v k) (pL v k) (qk c % 256) ((hWn.2.2.2.2.2.1 k (by omega)).1) (by omega) (by omega)) ((hWn.2.2.2.2.2.1 k (by omega)).1) rfl q890 q891 q892 q96 q893 rfl (by decide +kernel) rfl ⟨⟨Nat.le_of_ble_eq_true rfl, Nat.le_of_ble_eq_true rfl⟩, ⟨(Nat.le_of_ble_eq_true rfl), (Nat.le_of_ble_eq_true rfl)⟩⟩ (Nat.le_of_ble_eq_true rfl) hl.1 rfl dX2_reach_129 cX_no (fun r26 σ26 H locs hp26 hW => ?_)
              obtain ⟨rfl, hs26⟩ := hp26
              rw [hs26] at hW
              refine W.eq (g2 := F0 m_ 132 ls (.int (nI (clr (qk c % 256) (pM v k))) :: [])) rfl ?_
              refine lv_istore (lv' := [(8, .int (nI (clr (qk c % 256) (pM v k)))), (0, .ref (L 0)), (2, .ref q1_), (3, .ref q12_), (4, .int (nI ej)), (5, .int (nI c)), (6, .int (nI (qk c / 256))), (7, .int (nI k))]) F.x F.cd dX2_reach_132 hl (by decide) rfl (fun ls hl => ?_)
              refine lv_aload_n F.x F.cd dX2_reach_134 rfl (lv_at hl 1 rfl) ?_
              refine s_get F hW (ci := 1) (C := RX2) (T := TX2) (N := 6) (v := .ref (L 2)) (hWn.1) rfl in_X2 1 (by decide) q162 (fun _ h9 => h9) rfl dX2_reach_135 ?_
              refine lv_iload F.x F.cd dX2_reach_138 (lv_at hl 7 rfl) ?_
              refine s_callF (As := [.int (nI k)]) (rest := []) (C := RJ2) (T := TJ2) (N := 3) (n := 1) F hW (k_J2_get g l σj _ _ _ _ k hP_k (by omega)) (eP_k) rfl (List.mem_of_getElem? (i := 1) rfl) q693 q328 q330 q72 q332 (by decide +kernel) rfl ⟨⟨Nat.le_of_ble_eq_true rfl, Nat.le_of_ble_eq_true rfl⟩, ⟨(Nat.le_of_ble_eq_true rfl), (Nat.le_of_ble_eq_true rfl)⟩⟩ (Nat.le_of_ble_eq_true rfl) hl.1 rfl dX2_reach_140 cX_no (fun r27 σ27 H locs hp27 hW => ?_)
              obtain ⟨rfl, hs27⟩ := hp27
              rw [hs27] at hW
              refine W.eq (g2 := F0 m_ 145 ls (.ref (L (100 + k)) :: [])) rfl ?_
              refine s_cast_ F hW (C := RX5) (T := TX5) (N := 7) ((hWn.2.2.2.2.2.1 k (by omega)).1) rfl q694 dX2_reach_145 ?_
              refine lv_iload F.x F.cd dX2_reach_148 (lv_at hl 6 rfl) ?_
              refine s_callV (As := [.int (nI (qk c / 256))]) (rest := []) (C := RX5) (T := TX5) (N := 7) (n := 1) F hW (k_X5_otherEnd g l σj (L (100 + k)) (pA v k) (pB v k) (pM v k) (pV v k) (pR v k) (pD v k) (pL v k) (qk c / 256) ((hWn.2.2.2.2.2.1 k (by omega)).1) (by omega) (by omega)) ((hWn.2.2.2.2.2.1 k (by omega)).1) rfl q851 q680 q681 q96 q682 rfl (by decide +kernel) rfl ⟨⟨Nat.le_of_ble_eq_true rfl, Nat.le_of_ble_eq_true rfl⟩, ⟨(Nat.le_of_ble_eq_true rfl), (Nat.le_of_ble_eq_true rfl)⟩⟩ (Nat.le_of_ble_eq_true rfl) hl.1 rfl dX2_reach_150 cX_no (fun r28 σ28 H locs hp28 hW => ?_)
              obtain ⟨rfl, hs28⟩ := hp28
              rw [hs28] at hW
              refine W.eq (g2 := F0 m_ 153 ls (.int (nI (oth (pA v k) (pB v k) (qk c / 256))) :: [])) rfl ?_
              refine lv_istore (lv' := [(9, .int (nI (oth (pA v k) (pB v k) (qk c / 256)))), (8, .int (nI (clr (qk c % 256) (pM v k)))), (0, .ref (L 0)), (2, .ref q1_), (3, .ref q12_), (4, .int (nI ej)), (5, .int (nI c)), (6, .int (nI (qk c / 256))), (7, .int (nI k))]) F.x F.cd dX2_reach_153 hl (by decide) rfl (fun ls hl => ?_)
              refine lv_aload_n F.x F.cd dX2_reach_155 rfl (lv_at hl 2 rfl) ?_
              refine s_get F hW (ci := 1) (C := RX2) (T := TX2) (N := 6) (v := .ref (L 2)) (hWn.1) rfl in_X2 1 (by decide) q162 (fun _ h9 => h9) rfl dX2_reach_156 ?_
              refine lv_iload F.x F.cd dX2_reach_159 (lv_at hl 8 rfl) ?_
              refine s_callF (As := [.int (nI k)]) (rest := []) (C := RJ2) (T := TJ2) (N := 3) (n := 1) F hW (k_J2_get g l σj _ _ _ _ k hP_k (by omega)) (eP_k) rfl (List.mem_of_getElem? (i := 1) rfl) q693 q328 q330 q72 q332 (by decide +kernel) rfl ⟨⟨Nat.le_of_ble_eq_true rfl, Nat.le_of_ble_eq_true rfl⟩, ⟨(Nat.le_of_ble_eq_true rfl), (Nat.le_of_ble_eq_true rfl)⟩⟩ (Nat.le_of_ble_eq_true rfl) hl.1 rfl dX2_reach_161 cX_no (fun r29 σ29 H locs hp29 hW => ?_)
              obtain ⟨rfl, hs29⟩ := hp29
              rw [hs29] at hW
              refine W.eq (g2 := F0 m_ 166 ls (.ref (L (100 + k)) :: [])) rfl ?_
              refine s_cast_ F hW (C := RX5) (T := TX5) (N := 7) ((hWn.2.2.2.2.2.1 k (by omega)).1) rfl q694 dX2_reach_166 ?_
              refine lv_iload F.x F.cd dX2_reach_169 (lv_at hl 7 rfl) ?_
              refine s_callV (As := [.int (nI (qk c / 256))]) (rest := []) (C := RX5) (T := TX5) (N := 7) (n := 1) F hW (k_X5_leadsFrom g l σj (L (100 + k)) (pA v k) (pB v k) (pM v k) (pV v k) (pR v k) (pD v k) (pL v k) (qk c / 256) ((hWn.2.2.2.2.2.1 k (by omega)).1) (by omega) (by omega) (by omega) (by omega) (by omega)) ((hWn.2.2.2.2.2.1 k (by omega)).1) rfl q845 q846 q847 q96 q848 rfl (by decide +kernel) rfl ⟨⟨Nat.le_of_ble_eq_true rfl, Nat.le_of_ble_eq_true rfl⟩, ⟨(Nat.le_of_ble_eq_true rfl), (Nat.le_of_ble_eq_true rfl)⟩⟩ (Nat.le_of_ble_eq_true rfl) hl.1 rfl dX2_reach_171 cX_no (fun r30 σ30 H locs hp30 hW => ?_)
              obtain ⟨rfl, hs30⟩ := hp30
              rw [hs30] at hW
              refine W.eq (g2 := F0 m_ 174 ls (.int (bI (opn (pV v k) (pD v k) && tch (pA v k) (pB v k) (qk c / 256))) :: [])) rfl ?_
              refine b_if_eq (b := (opn (pV v k) (pD v k) && tch (pA v k) (pB v k) (qk c / 256))) (tgt := 204) F dX2_reach_174 (by decide) (fun c_174 => ?_) (fun c_174 => ?_)
              · refine lv_iinc (k := 8) (v := (nI (k + 1))) (lv' := [(7, .int (nI (k + 1))), (9, .int (nI (oth (pA v k) (pB v k) (qk c / 256)))), (8, .int (nI (clr (qk c % 256) (pM v k)))), (0, .ref (L 0)), (2, .ref q1_), (3, .ref q12_), (4, .int (nI ej)), (5, .int (nI c)), (6, .int (nI (qk c / 256)))]) F.x F.cd dX2_reach_204 hl rfl (inc_nI k 1) (by decide) rfl (fun ls hl => ?_)
                refine lv_goto (tgt := 93) F.x F.cd dX2_reach_207 (by decide) ?_
                exact ih93 (k + 1) σj fj qj ej (by omega) (hXn) (e0n) (ebn) (eqn) (hSI.skip (by rw [hqe]; exact c_174)) (hqe) H locs ls hW (lv_sub hl [3, 4, 5, 6, 7, 8, 0] rfl)
              · refine lv_aload_n F.x F.cd dX2_reach_177 rfl (lv_at hl 3 rfl) ?_
                refine lv_iload F.x F.cd dX2_reach_178 (lv_at hl 0 rfl) ?_
                refine lv_iload F.x F.cd dX2_reach_180 (lv_at hl 1 rfl) ?_
                refine s_callV (As := [.int (nI (oth (pA v k) (pB v k) (qk c / 256))), .int (nI (clr (qk c % 256) (pM v k)))]) (rest := []) (C := RX11) (T := TX11) (N := 2) (n := 2) F hW (k_X11_add g l σj q1_ ba (v 0) (tI v a) fj (oth (pA v k) (pB v k) (qk c / 256)) (clr (qk c % 256) (pM v k)) (e0n) (ebn) (by omega) (hba) (by first | omega | exact oth_lt hpq.1 hpq.2.1) (by first | omega | exact clr_lt (by omega))) (e0n) rfl q882 q883 q884 q109 q885 rfl (by decide +kernel) rfl ⟨⟨Nat.le_of_ble_eq_true rfl, Nat.le_of_ble_eq_true rfl⟩, ⟨(Nat.le_of_ble_eq_true rfl), (Nat.le_of_ble_eq_true rfl)⟩⟩ (Nat.le_of_ble_eq_true rfl) hl.1 rfl dX2_reach_182 cX_no (fun r31 σ31 H locs hp31 hW => ?_)
                obtain ⟨rfl, hσ31⟩ := hp31
                refine W.eq (g2 := F0 m_ 185 ls (.int (bI (!rhas fj (oth (pA v k) (pB v k) (qk c / 256)) (clr (qk c % 256) (pM v k)))) :: [])) rfl ?_
                have w32 : σ31 ba = some (eL g (4 * v 0) (radd fj (oth (pA v k) (pB v k) (qk c / 256)) (clr (qk c % 256) (pM v k)))) := by rw [hσ31]; exact sset_eq
                have f33 : σ31 (L 0) = some (.inr (1, [.ref (L 1), .ref (L 2), .int (nI (v 2)), .int (nI (v 3)), .int (nI (v 4)), .int (nI (v 5))])) := by rw [hσ31, sset_ne (sto_ne ebn hWn.1 (by simp))]; exact hWn.1
                have f34 : σ31 q1_ = some (.inr (14, [.int (nI (tI v a)), .ref ba])) := by rw [hσ31, sset_ne (sto_ne ebn e0n (by simp))]; exact e0n
                have f35 : σ31 (L (100 + k)) = some (.inr (9, [.int (nI (pA v k)), .int (nI (pB v k)), .int (nI (pM v k)), .int (nI (pV v k)), .int (nI (pR v k)), .int (nI (pD v k)), .int (nI (pL v k))])) := by rw [hσ31, sset_ne (sto_ne ebn ((hWn.2.2.2.2.2.1 k (by omega)).1) (by simp))]; exact (hWn.2.2.2.2.2.1 k (by omega)).1
                have f36 : σ31 q12_ = some (eI g 0 (v 0 * 2 ^ pops (tI v a)) (fun x9 => nI (qj x9))) := by rw [hσ31, sset_ne (Ne.symm (hbq))]; exact eqn
                refine b_if_eq (b := (!rhas fj (oth (pA v k) (pB v k) (qk c / 256)) (clr (qk c % 256) (pM v k)))) (tgt := 204) F dX2_reach_185 (by decide) (fun c_185 => ?_) (fun c_185 => ?_)
                · refine lv_iinc (k := 8) (v := (nI (k + 1))) (lv' := [(7, .int (nI (k + 1))), (9, .int (nI (oth (pA v k) (pB v k) (qk c / 256)))), (8, .int (nI (clr (qk c % 256) (pM v k)))), (0, .ref (L 0)), (2, .ref q1_), (3, .ref q12_), (4, .int (nI ej)), (5, .int (nI c)), (6, .int (nI (qk c / 256)))]) F.x F.cd dX2_reach_204 hl rfl (inc_nI k 1) (by decide) rfl (fun ls hl => ?_)
                  refine lv_goto (tgt := 93) F.x F.cd dX2_reach_207 (by decide) ?_
                  exact ih93 (k + 1) σ31 _ qj ej (by omega) (by rw [hσ31]; exact hXn.set hat) (f34) (w32) (f36) (by have h9 := hSI.old hst (by rw [hqe]; simpa using c_185); rw [hqe] at h9; exact h9) (hqe) H locs ls hW (lv_sub hl [3, 4, 5, 6, 7, 8, 0] rfl)
                · have hbd : ej + 1 ≤ v 0 * 2 ^ pops (tI v a) := ((hSI.new hI hst (by omega) (by rw [hqe]; exact c_174) (by rw [hqe]; simpa using c_185)).1).bound hst
                  refine lv_aload_n F.x F.cd dX2_reach_188 rfl (lv_at hl 4 rfl) ?_
                  refine lv_iload F.x F.cd dX2_reach_189 (lv_at hl 5 rfl) ?_
                  refine lv_sipush (v := (nI 256)) F.x F.cd dX2_reach_191 (by decide) ?_
                  refine lv_iload F.x F.cd dX2_reach_194 (lv_at hl 0 rfl) ?_
                  refine a_imul (v := (nI (256 * (oth (pA v k) (pB v k) (qk c / 256))))) F (pk_mul _ _) dX2_reach_196 ?_
                  refine lv_iload F.x F.cd dX2_reach_197 (lv_at hl 1 rfl) ?_
                  refine a_iadd (v := (nI (256 * (oth (pA v k) (pB v k) (qk c / 256)) + (clr (qk c % 256) (pM v k))))) F (nI_add _ _) dX2_reach_199 ?_
                  refine n_iastN (i := ej) F hW (f36) (hb_q12_) (by omega) (by omega) dX2_reach_200 (fun H locs hW => ?_)
                  obtain ⟨σ37, hσ37⟩ : ∃ z, z = sset σ31 q12_ (eI g 0 (v 0 * 2 ^ pops (tI v a)) (fun x9 => nI ((va_up qj ej (256 * (oth (pA v k) (pB v k) (qk c / 256)) + (clr (qk c % 256) (pM v k)))) x9))) := ⟨_, rfl⟩
                  have hW : Hl g σ37 H locs := by rw [hσ37]; exact hW
                  have w37 : σ37 q12_ = some (eI g 0 (v 0 * 2 ^ pops (tI v a)) (fun x9 => nI ((va_up qj ej (256 * (oth (pA v k) (pB v k) (qk c / 256)) + (clr (qk c % 256) (pM v k)))) x9))) := by rw [hσ37]; exact sset_eq
                  have f38 : σ37 (L 0) = some (.inr (1, [.ref (L 1), .ref (L 2), .int (nI (v 2)), .int (nI (v 3)), .int (nI (v 4)), .int (nI (v 5))])) := by rw [hσ37, sset_ne (sto_ne f36 f33 (by simp))]; exact f33
                  have f39 : σ37 q1_ = some (.inr (14, [.int (nI (tI v a)), .ref ba])) := by rw [hσ37, sset_ne (sto_ne f36 f34 (by simp))]; exact f34
                  have f40 : σ37 (L (100 + k)) = some (.inr (9, [.int (nI (pA v k)), .int (nI (pB v k)), .int (nI (pM v k)), .int (nI (pV v k)), .int (nI (pR v k)), .int (nI (pD v k)), .int (nI (pL v k))])) := by rw [hσ37, sset_ne (sto_ne f36 f35 (by simp))]; exact f35
                  have f41 : σ37 ba = some (eL g (4 * v 0) (radd fj (oth (pA v k) (pB v k) (qk c / 256)) (clr (qk c % 256) (pM v k)))) := by rw [hσ37, sset_ne (hbq)]; exact w32
                  refine lv_iinc (k := 5) (v := (nI (ej + 1))) (lv' := [(4, .int (nI (ej + 1))), (9, .int (nI (oth (pA v k) (pB v k) (qk c / 256)))), (8, .int (nI (clr (qk c % 256) (pM v k)))), (0, .ref (L 0)), (2, .ref q1_), (3, .ref q12_), (5, .int (nI c)), (6, .int (nI (qk c / 256))), (7, .int (nI k))]) F.x F.cd dX2_reach_201 hl rfl (inc_nI ej 1) (by decide) rfl (fun ls hl => ?_)
                  refine lv_iinc (k := 8) (v := (nI (k + 1))) (lv' := [(7, .int (nI (k + 1))), (4, .int (nI (ej + 1))), (9, .int (nI (oth (pA v k) (pB v k) (qk c / 256)))), (8, .int (nI (clr (qk c % 256) (pM v k)))), (0, .ref (L 0)), (2, .ref q1_), (3, .ref q12_), (5, .int (nI c)), (6, .int (nI (qk c / 256)))]) F.x F.cd dX2_reach_204 hl rfl (inc_nI k 1) (by decide) rfl (fun ls hl => ?_)
                  refine lv_goto (tgt := 93) F.x F.cd dX2_reach_207 (by decide) ?_
                  exact ih93 (k + 1) σ37 _ _ (ej + 1) (by omega) (by rw [hσ37, hσ31]; exact (hXn.set hat).set hxq) (f39) (f41) (w37) (by have h9 := hSI.new hI hst (by omega) (by rw [hqe]; exact c_174) (by rw [hqe]; simpa using c_185); rw [hqe] at h9; exact h9) (by rw [va_up_ne _ _ (by omega)]; exact hqe) H locs ls hW (lv_sub hl [4, 5, 6, 1, 7, 8, 0] rfl)
        exact loop93 (v 1) 0 _ _ _ _ (by omega) (hXn) (e0n) (ebn) (eqn) (hgo) (rfl) H locs ls hW (lv_sub hl [2, 3, 4, 5, 6, 1, 0] rfl)
  exact loop73 (2049) 0 _ _ _ 1 (by omega) (by rw [hσ20, hσ16]; exact (hX4.set hat).set hxq) (f21) (f22) (w20) (SO.start ha hst) H locs ls hW (lv_sub hl [4, 3, 2, 1, 0] rfl)
