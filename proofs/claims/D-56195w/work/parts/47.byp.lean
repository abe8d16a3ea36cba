/-! ===== reachByPasses ===== -/
set_option maxRecDepth 100000
set_option maxHeartbeats 4000000 in
theorem k_X2_reachByPasses (g : Gh) (l : Launch) (σ : Sto) (L v : Nat → Nat) (a : Nat) (hWk : IsWorks g σ L v) (hI : Inv v) (ha : a < v 0) : Ct g l yX2_reachByPasses cX2_reachByPasses 6 (some (.object "FilterWaterworks$Reach")) ({ frames := 3, cells := 2, slots := 34, locals := 69 } : Room) [.ref (L 0), .int (nI a)] σ (fun r σ' => ∃ (q ba : Nat) (f : Nat → Int64), r = some (.ref q) ∧ σ' q = some (.inr (14, [.int (nI (tI v a)), .ref ba])) ∧ σ' ba = some (eL g (4 * v 0) f) ∧ Ext σ σ' ∧ ∀ t x, x < 256 → (rhas f t x = true ↔ RC v a (tI v a) t x)) (nox) := by
  refine Ct.body (by decide) (Nat.le_of_ble_eq_true rfl) ?_
  intro p_ e_ s_ m_ args_ below_ meth_ c_ ls H locs Q F hW hl hQ
  have hl : lv_has ls 6 [(0, .ref (L 0)), (1, .int (nI a))] := hl
  have hT := hWk.2.2.1
  have hP := hWk.2.2.2.1
  obtain ⟨mcT, nT, fT, eT, bT, -⟩ := id hT
  obtain ⟨mcP, nP, fP, eP, bP, -⟩ := id hP
  have hv0 := hI.1
  have hv1 := hI.2.1
  have hst0 := (hI.tk ha).2.2.2
  refine s_new F hW 14 (C := RX11) (T := TX11) (N := 2) (fs := [.int (nI 0), .null]) rfl in_X11 tyX11_ok q861 q862 q109 (fun j hj => by rcases (show j = 0 ∨ j = 1 by omega) with rfl | rfl <;> rfl) (Nat.le_of_ble_eq_true rfl) (Nat.le_of_ble_eq_true rfl) dX2_reachByPasses_0 (fun q1_ H hb_q1_ hn_q1_ hW => ?_)
  obtain ⟨σ2, hσ2⟩ : ∃ z, z = sset σ q1_ (.inr (14, [.int (nI 0), .null])) := ⟨_, rfl⟩
  have hW : Hl g σ2 H locs := by rw [hσ2]; exact hW
  have w2 : σ2 q1_ = some (.inr (14, [.int (nI 0), .null])) := by rw [hσ2]; exact sset_eq
  have f3 : σ2 (L 0) = some (.inr (1, [.ref (L 1), .ref (L 2), .int (nI (v 2)), .int (nI (v 3)), .int (nI (v 4)), .int (nI (v 5))])) := by rw [hσ2, sset_ne (sto_ne0 hn_q1_ hWk.1)]; exact hWk.1
  have f4 : σ2 (L 1) = some (.inr (2, [.int mcT, .ref (L 3), .int (nI (v 0))])) := by rw [hσ2, sset_ne (sto_ne0 hn_q1_ eT)]; exact eT
  have j5 := IsList.new (e := .inr (14, [.int (nI 0), .null])) (hT) (hn_q1_)
  rw [← hσ2] at j5
  have f6 : σ2 (L 2) = some (.inr (2, [.int mcP, .ref (L 4), .int (nI (v 1))])) := by rw [hσ2, sset_ne (sto_ne0 hn_q1_ eP)]; exact eP
  have j7 := IsList.new (e := .inr (14, [.int (nI 0), .null])) (hP) (hn_q1_)
  rw [← hσ2] at j7
  refine lv_dup F.x F.cd dX2_reachByPasses_3 rfl ?_
  have hWa : IsWorks g σ2 L v := by rw [hσ2]; exact hWk.new hn_q1_
  have hT_a := hWa.2.2.1
  have hP_a := hWa.2.2.2.1
  obtain ⟨mcT_a, nT_a, fT_a, eT_a, bT_a, -⟩ := id hT_a
  obtain ⟨mcP_a, nP_a, fP_a, eP_a, bP_a, -⟩ := id hP_a
  have hv0_a := hI.1
  have hv1_a := hI.2.1
  refine lv_aload_n F.x F.cd dX2_reachByPasses_4 rfl (lv_at hl 0 rfl) ?_
  refine s_get F hW (ci := 1) (C := RX2) (T := TX2) (N := 6) (v := .ref (L 1)) (hWa.1) rfl in_X2 0 (by decide) q159 (fun _ h9 => h9) rfl dX2_reachByPasses_5 ?_
  refine s_callF (As := []) (rest := [.ref q1_, .ref q1_]) (C := RJ2) (T := TJ2) (N := 3) (n := 0) F hW (k_J2_size g l σ2 _ _ _ _ hT_a) (eT_a) rfl (List.mem_of_getElem? (i := 0) rfl) q317 q272 q274 q72 q276 (by decide +kernel) rfl ⟨⟨Nat.le_of_ble_eq_true rfl, Nat.le_of_ble_eq_true rfl⟩, ⟨(Nat.le_of_ble_eq_true rfl), (Nat.le_of_ble_eq_true rfl)⟩⟩ (Nat.le_of_ble_eq_true rfl) hl.1 rfl dX2_reachByPasses_8 cX_no (fun r8 σ8 H locs hp8 hW => ?_)
  obtain ⟨rfl, hs8⟩ := hp8
  rw [hs8] at hW
  refine W.eq (g2 := F0 m_ 13 ls (.int (nI (v 0)) :: .ref q1_ :: .ref q1_ :: [])) rfl ?_
  refine lv_aload_n F.x F.cd dX2_reachByPasses_13 rfl (lv_at hl 0 rfl) ?_
  refine s_get F hW (ci := 1) (C := RX2) (T := TX2) (N := 6) (v := .ref (L 1)) (hWa.1) rfl in_X2 0 (by decide) q159 (fun _ h9 => h9) rfl dX2_reachByPasses_14 ?_
  refine lv_iload_n F.x F.cd dX2_reachByPasses_17 rfl (lv_at hl 1 rfl) ?_
  refine s_callF (As := [.int (nI a)]) (rest := [.int (nI (v 0)), .ref q1_, .ref q1_]) (C := RJ2) (T := TJ2) (N := 3) (n := 1) F hW (k_J2_get g l σ2 _ _ _ _ a hT_a (by omega)) (eT_a) rfl (List.mem_of_getElem? (i := 1) rfl) q693 q328 q330 q72 q332 (by decide +kernel) rfl ⟨⟨Nat.le_of_ble_eq_true rfl, Nat.le_of_ble_eq_true rfl⟩, ⟨(Nat.le_of_ble_eq_true rfl), (Nat.le_of_ble_eq_true rfl)⟩⟩ (Nat.le_of_ble_eq_true rfl) hl.1 rfl dX2_reachByPasses_18 cX_no (fun r9 σ9 H locs hp9 hW => ?_)
  obtain ⟨rfl, hs9⟩ := hp9
  rw [hs9] at hW
  refine W.eq (g2 := F0 m_ 23 ls (.ref (L (10 + a)) :: .int (nI (v 0)) :: .ref q1_ :: .ref q1_ :: [])) rfl ?_
  refine s_cast_ F hW (C := RX4) (T := TX4) (N := 3) ((hWa.2.2.2.2.1 a (by omega)).1) rfl q790 dX2_reachByPasses_23 ?_
  refine s_getN F hW (ci := 8) (C := RX4) (T := TX4) (N := 3) (v := .int (nI (tI v a))) ((hWa.2.2.2.2.1 a (by omega)).1) rfl in_X4 2 (by decide) q954 (fun _ h9 => h9) rfl dX2_reachByPasses_26 ?_
  refine s_callI (As := [.int (nI (v 0)), .int (nI (tI v a))]) (rest := [.ref q1_]) (n := 2) F hW (k_X11_init g l σ2 q1_ (v 0) (tI v a) (w2) (hb_q1_) (by omega)) q863 q864 q109 q865 rfl (by decide +kernel) rfl ⟨⟨Nat.le_of_ble_eq_true rfl, Nat.le_of_ble_eq_true rfl⟩, ⟨(Nat.le_of_ble_eq_true rfl), (Nat.le_of_ble_eq_true rfl)⟩⟩ (Nat.le_of_ble_eq_true rfl) hl.1 rfl dX2_reachByPasses_29 cX_no (fun r10 σ10 H locs hp10 hW => ?_)
  obtain ⟨rfl, ba, hna, hba, hro, hra, hXr⟩ := hp10
  refine W.eq (g2 := F0 m_ 32 ls (.ref q1_ :: [])) rfl ?_
  have hXt : Ext σ σ10 := fun a9 ha9 => by
    have hq9 : a9 ≠ q1_ := by rintro rfl; exact ha9 hn_q1_
    rw [hXr a9 (by rw [hσ2, sset_ne hq9]; exact ha9) hq9, hσ2, sset_ne hq9]
  have hat : σ ba = none := by
    by_cases hq9 : ba = q1_
    · rw [hq9]; exact hn_q1_
    · rw [hσ2, sset_ne hq9] at hna; exact hna
  have hWs := hWk.ext hXt
  have hst : tI v a < 256 := (hI.tk ha).2.2.2
  refine lv_astore_n (lv' := [(2, .ref q1_), (0, .ref (L 0)), (1, .int (nI a))]) F.x F.cd dX2_reachByPasses_32 rfl hl (by decide) rfl (fun ls hl => ?_)
  refine lv_aload_n F.x F.cd dX2_reachByPasses_33 rfl (lv_at hl 0 rfl) ?_
  refine lv_iload_n F.x F.cd dX2_reachByPasses_34 rfl (lv_at hl 2 rfl) ?_
  refine lv_aload_n F.x F.cd dX2_reachByPasses_35 rfl (lv_at hl 0 rfl) ?_
  refine s_getN F hW (ci := 14) (C := RX11) (T := TX11) (N := 2) (v := .int (nI (tI v a))) (hro) rfl in_X11 0 (by decide) q868 (fun _ h9 => h9) rfl dX2_reachByPasses_36 ?_
  refine s_callV (As := [.int (nI a), .int (nI (tI v a))]) (rest := []) (C := RX11) (T := TX11) (N := 2) (n := 2) F hW (k_X11_add g l σ10 q1_ ba (v 0) (tI v a) (fun _ => 0) a (tI v a) (hro) (hra) (by omega) (hba) (by omega) (by omega)) (hro) rfl q882 q883 q884 q109 q885 rfl (by decide +kernel) rfl ⟨⟨Nat.le_of_ble_eq_true rfl, Nat.le_of_ble_eq_true rfl⟩, ⟨(Nat.le_of_ble_eq_true rfl), (Nat.le_of_ble_eq_true rfl)⟩⟩ (Nat.le_of_ble_eq_true rfl) hl.1 rfl dX2_reachByPasses_39 cX_no (fun r11 σ11 H locs hp11 hW => ?_)
  obtain ⟨rfl, hσ11⟩ := hp11
  refine W.eq (g2 := F0 m_ 42 ls (.int (bI (!rhas (fun _ => 0) a (tI v a))) :: [])) rfl ?_
  have w12 : σ11 ba = some (eL g (4 * v 0) (radd (fun _ => 0) a (tI v a))) := by rw [hσ11]; exact sset_eq
  have f13 : σ11 q1_ = some (.inr (14, [.int (nI (tI v a)), .ref ba])) := by rw [hσ11, sset_ne (sto_ne hra hro (by simp))]; exact hro
  refine lv_pop F.x F.cd dX2_reachByPasses_42 rfl ?_
  refine lv_iconst (v := (nI 1)) F.x F.cd dX2_reachByPasses_43 (by decide) ?_
  refine lv_istore_n (lv' := [(3, .int (nI 1)), (2, .ref q1_), (0, .ref (L 0)), (1, .int (nI a))]) F.x F.cd dX2_reachByPasses_44 rfl hl (by decide) rfl (fun ls hl => ?_)
  have hl : lv_has ls 6 [(3, .int (bI true)), (2, .ref q1_), (0, .ref (L 0)), (1, .int (nI a))] := hl
  have loop45 : ∀ (n : Nat) (c : Nat) (σk : Sto) (fk : Nat → Int64) (ch : Bool), c + n = 2049 → (σk = sset σ10 ba (eL g (4 * v 0) fk)) → RS v a (tI v a) fk → rhas fk a (tI v a) = true → (ch = true → unr fk < n) → (ch = false → ∀ t x, x < 256 → (rhas fk t x = true ↔ RC v a (tI v a) t x)) → ∀ (H : Heap) (locs : List Loc) (ls : Array Slot), Hl g σk H locs → lv_has ls 6 [(0, .ref (L 0)), (2, .ref q1_), (3, .int (bI ch))] → W p_ l e_ ({ frames := 3, cells := 2, slots := 34, locals := 69 } : Room) s_ m_ args_ below_ meth_ c_ H locs 2 34 Q (F0 m_ 45 ls ([])) := by
    intro n
    induction n with
    | zero =>
      intro c σk fk ch hkn hσk hRS h0 hlt hdone H locs ls hW hl
      have ebn : σk ba = some (eL g (4 * v 0) fk) := by rw [hσk, sset_eq]
      have e0n : σk q1_ = some (.inr (14, [.int (nI (tI v a)), .ref ba])) := by rw [hσk, sset_ne (sto_ne hra hro (by simp))]; exact hro
      have hXn : Ext σ σk := by rw [hσk]; exact hXt.set hat
      have hWn := hWk.ext hXn
      have hT_k := hWn.2.2.1
      have hP_k := hWn.2.2.2.1
      obtain ⟨mcT_k, nT_k, fT_k, eT_k, bT_k, -⟩ := id hT_k
      obtain ⟨mcP_k, nP_k, fP_k, eP_k, bP_k, -⟩ := id hP_k
      have hv0_k := hI.1
      have hv1_k := hI.2.1
      refine lv_iload_n F.x F.cd dX2_reachByPasses_45 rfl (lv_at hl 2 rfl) ?_
      refine b_if_eq (b := ch) (tgt := 157) F dX2_reachByPasses_46 (by decide) (fun c_46 => ?_) (fun c_46 => ?_)
      · refine lv_aload_n F.x F.cd dX2_reachByPasses_157 rfl (lv_at hl 1 rfl) ?_
        subst hQ
        exact s_reta F hW (Or.inl ⟨_, rfl⟩) (Or.inr ⟨_, rfl⟩) (⟨q1_, ba, fk, rfl, e0n, ebn, hXn, hdone c_46⟩) ⟨(Nat.le_of_ble_eq_true rfl), (Nat.le_of_ble_eq_true rfl)⟩ dX2_reachByPasses_158
      · exact absurd (hlt c_46) (by omega)
    | succ n ih45 =>
      intro c σk fk ch hkn hσk hRS h0 hlt hdone H locs ls hW hl
      have ebn : σk ba = some (eL g (4 * v 0) fk) := by rw [hσk, sset_eq]
      have e0n : σk q1_ = some (.inr (14, [.int (nI (tI v a)), .ref ba])) := by rw [hσk, sset_ne (sto_ne hra hro (by simp))]; exact hro
      have hXn : Ext σ σk := by rw [hσk]; exact hXt.set hat
      have hWn := hWk.ext hXn
      have hT_k := hWn.2.2.1
      have hP_k := hWn.2.2.2.1
      obtain ⟨mcT_k, nT_k, fT_k, eT_k, bT_k, -⟩ := id hT_k
      obtain ⟨mcP_k, nP_k, fP_k, eP_k, bP_k, -⟩ := id hP_k
      have hv0_k := hI.1
      have hv1_k := hI.2.1
      refine lv_iload_n F.x F.cd dX2_reachByPasses_45 rfl (lv_at hl 2 rfl) ?_
      refine b_if_eq (b := ch) (tgt := 157) F dX2_reachByPasses_46 (by decide) (fun c_46 => ?_) (fun c_46 => ?_)
      · refine lv_aload_n F.x F.cd dX2_reachByPasses_157 rfl (lv_at hl 1 rfl) ?_
        subst hQ
        exact s_reta F hW (Or.inl ⟨_, rfl⟩) (Or.inr ⟨_, rfl⟩) (⟨q1_, ba, fk, rfl, e0n, ebn, hXn, hdone c_46⟩) ⟨(Nat.le_of_ble_eq_true rfl), (Nat.le_of_ble_eq_true rfl)⟩ dX2_reachByPasses_158
      · refine lv_iconst (v := (nI 0)) F.x F.cd dX2_reachByPasses_49 (by decide) ?_
        refine lv_istore_n (lv' := [(3, .int (nI 0)), (0, .ref (L 0)), (2, .ref q1_)]) F.x F.cd dX2_reachByPasses_50 rfl hl (by decide) rfl (fun ls hl => ?_)
        refine lv_iconst (v := (nI 0)) F.x F.cd dX2_reachByPasses_51 (by decide) ?_
        refine lv_istore (lv' := [(4, .int (nI 0)), (3, .int (nI 0)), (0, .ref (L 0)), (2, .ref q1_)]) F.x F.cd dX2_reachByPasses_52 hl (by decide) rfl (fun ls hl => ?_)
        have hl : lv_has ls 6 [(4, .int (nI 0)), (3, .int (bI false)), (0, .ref (L 0)), (2, .ref q1_)] := hl
        have loop54 : ∀ (z : Nat) (k : Nat) (σj : Sto) (fj : Nat → Int64) (cj : Bool), k + z = v 1 → (σj = sset σ10 ba (eL g (4 * v 0) fj)) → RP v a (tI v a) fk fj cj k → ∀ (H : Heap) (locs : List Loc) (ls : Array Slot), Hl g σj H locs → lv_has ls 6 [(0, .ref (L 0)), (2, .ref q1_), (3, .int (bI cj)), (4, .int (nI k))] → W p_ l e_ ({ frames := 3, cells := 2, slots := 34, locals := 69 } : Room) s_ m_ args_ below_ meth_ c_ H locs 2 34 Q (F0 m_ 54 ls ([])) := by
          intro z
          induction z with
          | zero =>
            intro k σj fj cj hkz hσj hRP H locs ls hW hl
            have ebn : σj ba = some (eL g (4 * v 0) fj) := by rw [hσj, sset_eq]
            have e0n : σj q1_ = some (.inr (14, [.int (nI (tI v a)), .ref ba])) := by rw [hσj, sset_ne (sto_ne hra hro (by simp))]; exact hro
            have hXn : Ext σ σj := by rw [hσj]; exact hXt.set hat
            have hWn := hWk.ext hXn
            have hT_k := hWn.2.2.1
            have hP_k := hWn.2.2.2.1
            obtain ⟨mcT_k, nT_k, fT_k, eT_k, bT_k, -⟩ := id hT_k
            obtain ⟨mcP_k, nP_k, fP_k, eP_k, bP_k, -⟩ := id hP_k
            have hv0_k := hI.1
            have hv1_k := hI.2.1
            refine lv_iload F.x F.cd dX2_reachByPasses_54 (lv_at hl 3 rfl) ?_
            refine lv_aload_n F.x F.cd dX2_reachByPasses_56 rfl (lv_at hl 0 rfl) ?_
            refine s_get F hW (ci := 1) (C := RX2) (T := TX2) (N := 6) (v := .ref (L 2)) (hWn.1) rfl in_X2 1 (by decide) q162 (fun _ h9 => h9) rfl dX2_reachByPasses_57 ?_
            refine s_callF (As := []) (rest := [.int (nI k)]) (C := RJ2) (T := TJ2) (N := 3) (n := 0) F hW (k_J2_size g l σj _ _ _ _ hP_k) (eP_k) rfl (List.mem_of_getElem? (i := 0) rfl) q317 q272 q274 q72 q276 (by decide +kernel) rfl ⟨⟨Nat.le_of_ble_eq_true rfl, Nat.le_of_ble_eq_true rfl⟩, ⟨(Nat.le_of_ble_eq_true rfl), (Nat.le_of_ble_eq_true rfl)⟩⟩ (Nat.le_of_ble_eq_true rfl) hl.1 rfl dX2_reachByPasses_60 cX_no (fun r14 σ14 H locs hp14 hW => ?_)
            obtain ⟨rfl, hs14⟩ := hp14
            rw [hs14] at hW
            refine W.eq (g2 := F0 m_ 65 ls (.int (nI (v 1)) :: .int (nI k) :: [])) rfl ?_
            refine n_icmp_ge (a := k) (b := v 1) (tgt := 154) F (by omega) (by omega) dX2_reachByPasses_65 (by decide) (fun c_65 => ?_) (fun c_65 => ?_)
            · refine lv_goto (tgt := 45) F.x F.cd dX2_reachByPasses_154 (by decide) ?_
              exact ih45 (c + 1) σj fj cj (by omega) (hσj) (hRP.1) (hRP.2.1 _ _ hst h0) (fun h9 => by subst h9; have h8 := hRP.less; have h7 := hlt c_46; omega) (fun h9 t x hx => by subst h9; exact RP.done hI hst (by rw [← show k = v 1 by omega]; exact hRP) h0 hx) H locs ls hW (lv_sub hl [0, 1, 2] rfl)
            · exact absurd c_65 (by omega)
          | succ z ih54 =>
            intro k σj fj cj hkz hσj hRP H locs ls hW hl
            have ebn : σj ba = some (eL g (4 * v 0) fj) := by rw [hσj, sset_eq]
            have e0n : σj q1_ = some (.inr (14, [.int (nI (tI v a)), .ref ba])) := by rw [hσj, sset_ne (sto_ne hra hro (by simp))]; exact hro
            have hXn : Ext σ σj := by rw [hσj]; exact hXt.set hat
            have hWn := hWk.ext hXn
            have hT_k := hWn.2.2.1
            have hP_k := hWn.2.2.2.1
            obtain ⟨mcT_k, nT_k, fT_k, eT_k, bT_k, -⟩ := id hT_k
            obtain ⟨mcP_k, nP_k, fP_k, eP_k, bP_k, -⟩ := id hP_k
            have hv0_k := hI.1
            have hv1_k := hI.2.1
            refine lv_iload F.x F.cd dX2_reachByPasses_54 (lv_at hl 3 rfl) ?_
            refine lv_aload_n F.x F.cd dX2_reachByPasses_56 rfl (lv_at hl 0 rfl) ?_
            refine s_get F hW (ci := 1) (C := RX2) (T := TX2) (N := 6) (v := .ref (L 2)) (hWn.1) rfl in_X2 1 (by decide) q162 (fun _ h9 => h9) rfl dX2_reachByPasses_57 ?_
            refine s_callF (As := []) (rest := [.int (nI k)]) (C := RJ2) (T := TJ2) (N := 3) (n := 0) F hW (k_J2_size g l σj _ _ _ _ hP_k) (eP_k) rfl (List.mem_of_getElem? (i := 0) rfl) q317 q272 q274 q72 q276 (by decide +kernel) rfl ⟨⟨Nat.le_of_ble_eq_true rfl, Nat.le_of_ble_eq_true rfl⟩, ⟨(Nat.le_of_ble_eq_true rfl), (Nat.le_of_ble_eq_true rfl)⟩⟩ (Nat.le_of_ble_eq_true rfl) hl.1 rfl dX2_reachByPasses_60 cX_no (fun r15 σ15 H locs hp15 hW => ?_)
            obtain ⟨rfl, hs15⟩ := hp15
            rw [hs15] at hW
            refine W.eq (g2 := F0 m_ 65 ls (.int (nI (v 1)) :: .int (nI k) :: [])) rfl ?_
            refine n_icmp_ge (a := k) (b := v 1) (tgt := 154) F (by omega) (by omega) dX2_reachByPasses_65 (by decide) (fun c_65 => ?_) (fun c_65 => ?_)
            · exact absurd c_65 (by omega)
            · have hpq := hI.pp (q := k) (by omega)
              refine lv_aload_n F.x F.cd dX2_reachByPasses_68 rfl (lv_at hl 0 rfl) ?_
              refine s_get F hW (ci := 1) (C := RX2) (T := TX2) (N := 6) (v := .ref (L 2)) (hWn.1) rfl in_X2 1 (by decide) q162 (fun _ h9 => h9) rfl dX2_reachByPasses_69 ?_
              refine lv_iload F.x F.cd dX2_reachByPasses_72 (lv_at hl 3 rfl) ?_
              refine s_callF (As := [.int (nI k)]) (rest := []) (C := RJ2) (T := TJ2) (N := 3) (n := 1) F hW (k_J2_get g l σj _ _ _ _ k hP_k (by omega)) (eP_k) rfl (List.mem_of_getElem? (i := 1) rfl) q693 q328 q330 q72 q332 (by decide +kernel) rfl ⟨⟨Nat.le_of_ble_eq_true rfl, Nat.le_of_ble_eq_true rfl⟩, ⟨(Nat.le_of_ble_eq_true rfl), (Nat.le_of_ble_eq_true rfl)⟩⟩ (Nat.le_of_ble_eq_true rfl) hl.1 rfl dX2_reachByPasses_74 cX_no (fun r16 σ16 H locs hp16 hW => ?_)
              obtain ⟨rfl, hs16⟩ := hp16
              rw [hs16] at hW
              refine W.eq (g2 := F0 m_ 79 ls (.ref (L (100 + k)) :: [])) rfl ?_
              refine s_cast_ F hW (C := RX5) (T := TX5) (N := 7) ((hWn.2.2.2.2.2.1 k (by omega)).1) rfl q694 dX2_reachByPasses_79 ?_
              refine lv_astore (lv' := [(5, .ref (L (100 + k))), (0, .ref (L 0)), (2, .ref q1_), (3, .int (bI cj)), (4, .int (nI k))]) F.x F.cd dX2_reachByPasses_82 hl (by decide) rfl (fun ls hl => ?_)
              refine lv_aload F.x F.cd dX2_reachByPasses_84 (lv_at hl 0 rfl) ?_
              refine s_callV (As := []) (rest := []) (C := RX5) (T := TX5) (N := 7) (n := 0) F hW (k_X5_isOpen g l σj (L (100 + k)) (pA v k) (pB v k) (pM v k) (pV v k) (pR v k) (pD v k) (pL v k) ((hWn.2.2.2.2.2.1 k (by omega)).1) (by omega) (by omega)) ((hWn.2.2.2.2.2.1 k (by omega)).1) rfl q698 q672 q673 q96 q674 rfl (by decide +kernel) rfl ⟨⟨Nat.le_of_ble_eq_true rfl, Nat.le_of_ble_eq_true rfl⟩, ⟨(Nat.le_of_ble_eq_true rfl), (Nat.le_of_ble_eq_true rfl)⟩⟩ (Nat.le_of_ble_eq_true rfl) hl.1 rfl dX2_reachByPasses_86 cX_no (fun r17 σ17 H locs hp17 hW => ?_)
              obtain ⟨rfl, hs17⟩ := hp17
              rw [hs17] at hW
              refine W.eq (g2 := F0 m_ 89 ls (.int (bI (opn (pV v k) (pD v k))) :: [])) rfl ?_
              refine b_if_eq (b := (opn (pV v k) (pD v k))) (tgt := 106) F dX2_reachByPasses_89 (by decide) (fun c_89 => ?_) (fun c_89 => ?_)
              · refine lv_iload_n F.x F.cd dX2_reachByPasses_106 rfl (lv_at hl 3 rfl) ?_
                refine b_if_eq (b := cj) (tgt := 114) F dX2_reachByPasses_107 (by decide) (fun c_107 => ?_) (fun c_107 => ?_)
                · refine lv_iconst (v := (nI 0)) F.x F.cd dX2_reachByPasses_114 (by decide) ?_
                  refine W.eq (g2 := F0 m_ 115 ls (.int (bI cj) :: [])) (by rw [c_107]; rfl) ?_
                  refine lv_istore_n (lv' := [(3, .int (bI cj)), (5, .ref (L (100 + k))), (0, .ref (L 0)), (2, .ref q1_), (4, .int (nI k))]) F.x F.cd dX2_reachByPasses_115 rfl hl (by decide) rfl (fun ls hl => ?_)
                  refine lv_aload F.x F.cd dX2_reachByPasses_116 (lv_at hl 1 rfl) ?_
                  refine s_callV (As := []) (rest := []) (C := RX5) (T := TX5) (N := 7) (n := 0) F hW (k_X5_isOpen g l σj (L (100 + k)) (pA v k) (pB v k) (pM v k) (pV v k) (pR v k) (pD v k) (pL v k) ((hWn.2.2.2.2.2.1 k (by omega)).1) (by omega) (by omega)) ((hWn.2.2.2.2.2.1 k (by omega)).1) rfl q698 q672 q673 q96 q674 rfl (by decide +kernel) rfl ⟨⟨Nat.le_of_ble_eq_true rfl, Nat.le_of_ble_eq_true rfl⟩, ⟨(Nat.le_of_ble_eq_true rfl), (Nat.le_of_ble_eq_true rfl)⟩⟩ (Nat.le_of_ble_eq_true rfl) hl.1 rfl dX2_reachByPasses_118 cX_no (fun r18 σ18 H locs hp18 hW => ?_)
                  obtain ⟨rfl, hs18⟩ := hp18
                  rw [hs18] at hW
                  refine W.eq (g2 := F0 m_ 121 ls (.int (bI (opn (pV v k) (pD v k))) :: [])) rfl ?_
                  refine b_if_eq (b := (opn (pV v k) (pD v k))) (tgt := 138) F dX2_reachByPasses_121 (by decide) (fun c_121 => ?_) (fun c_121 => ?_)
                  · refine lv_iload_n F.x F.cd dX2_reachByPasses_138 rfl (lv_at hl 0 rfl) ?_
                    refine b_if_eq (b := cj) (tgt := 146) F dX2_reachByPasses_139 (by decide) (fun c_139 => ?_) (fun c_139 => ?_)
                    · refine lv_iconst (v := (nI 0)) F.x F.cd dX2_reachByPasses_146 (by decide) ?_
                      refine W.eq (g2 := F0 m_ 147 ls (.int (bI cj) :: [])) (by rw [c_139]; rfl) ?_
                      refine lv_istore_n (lv' := [(3, .int (bI cj)), (5, .ref (L (100 + k))), (0, .ref (L 0)), (2, .ref q1_), (4, .int (nI k))]) F.x F.cd dX2_reachByPasses_147 rfl hl (by decide) rfl (fun ls hl => ?_)
                      refine lv_iinc (k := 4) (v := (nI (k + 1))) (lv' := [(4, .int (nI (k + 1))), (3, .int (bI cj)), (5, .ref (L (100 + k))), (0, .ref (L 0)), (2, .ref q1_)]) F.x F.cd dX2_reachByPasses_148 hl rfl (inc_nI k 1) (by decide) rfl (fun ls hl => ?_)
                      refine lv_goto (tgt := 54) F.x F.cd dX2_reachByPasses_151 (by decide) ?_
                      exact ih54 (k + 1) σj fj cj (by omega) (hσj) (hRP.skip c_89) H locs ls hW (lv_sub hl [3, 4, 1, 0] rfl)
                    · refine lv_iconst (v := (nI 1)) F.x F.cd dX2_reachByPasses_142 (by decide) ?_
                      refine lv_goto (tgt := 147) F.x F.cd dX2_reachByPasses_143 (by decide) ?_
                      refine W.eq (g2 := F0 m_ 147 ls (.int (bI cj) :: [])) (by rw [c_139]; rfl) ?_
                      refine lv_istore_n (lv' := [(3, .int (bI cj)), (5, .ref (L (100 + k))), (0, .ref (L 0)), (2, .ref q1_), (4, .int (nI k))]) F.x F.cd dX2_reachByPasses_147 rfl hl (by decide) rfl (fun ls hl => ?_)
                      refine lv_iinc (k := 4) (v := (nI (k + 1))) (lv' := [(4, .int (nI (k + 1))), (3, .int (bI cj)), (5, .ref (L (100 + k))), (0, .ref (L 0)), (2, .ref q1_)]) F.x F.cd dX2_reachByPasses_148 hl rfl (inc_nI k 1) (by decide) rfl (fun ls hl => ?_)
                      refine lv_goto (tgt := 54) F.x F.cd dX2_reachByPasses_151 (by decide) ?_
                      exact ih54 (k + 1) σj fj cj (by omega) (hσj) (hRP.skip c_89) H locs ls hW (lv_sub hl [3, 4, 1, 0] rfl)
                  · exact absurd (c_89.symm.trans c_121) (by decide)
                · refine lv_iconst (v := (nI 1)) F.x F.cd dX2_reachByPasses_110 (by decide) ?_
                  refine lv_goto (tgt := 115) F.x F.cd dX2_reachByPasses_111 (by decide) ?_
                  refine W.eq (g2 := F0 m_ 115 ls (.int (bI cj) :: [])) (by rw [c_107]; rfl) ?_
                  refine lv_istore_n (lv' := [(3, .int (bI cj)), (5, .ref (L (100 + k))), (0, .ref (L 0)), (2, .ref q1_), (4, .int (nI k))]) F.x F.cd dX2_reachByPasses_115 rfl hl (by decide) rfl (fun ls hl => ?_)
                  refine lv_aload F.x F.cd dX2_reachByPasses_116 (lv_at hl 1 rfl) ?_
                  refine s_callV (As := []) (rest := []) (C := RX5) (T := TX5) (N := 7) (n := 0) F hW (k_X5_isOpen g l σj (L (100 + k)) (pA v k) (pB v k) (pM v k) (pV v k) (pR v k) (pD v k) (pL v k) ((hWn.2.2.2.2.2.1 k (by omega)).1) (by omega) (by omega)) ((hWn.2.2.2.2.2.1 k (by omega)).1) rfl q698 q672 q673 q96 q674 rfl (by decide +kernel) rfl ⟨⟨Nat.le_of_ble_eq_true rfl, Nat.le_of_ble_eq_true rfl⟩, ⟨(Nat.le_of_ble_eq_true rfl), (Nat.le_of_ble_eq_true rfl)⟩⟩ (Nat.le_of_ble_eq_true rfl) hl.1 rfl dX2_reachByPasses_118 cX_no (fun r19 σ19 H locs hp19 hW => ?_)
                  obtain ⟨rfl, hs19⟩ := hp19
                  rw [hs19] at hW
                  refine W.eq (g2 := F0 m_ 121 ls (.int (bI (opn (pV v k) (pD v k))) :: [])) rfl ?_
                  refine b_if_eq (b := (opn (pV v k) (pD v k))) (tgt := 138) F dX2_reachByPasses_121 (by decide) (fun c_121 => ?_) (fun c_121 => ?_)
                  · refine lv_iload_n F.x F.cd dX2_reachByPasses_138 rfl (lv_at hl 0 rfl) ?_
                    refine b_if_eq (b := cj) (tgt := 146) F dX2_reachByPasses_139 (by decide) (fun c_139 => ?_) (fun c_139 => ?_)
                    · refine lv_iconst (v := (nI 0)) F.x F.cd dX2_reachByPasses_146 (by decide) ?_
                      refine W.eq (g2 := F0 m_ 147 ls (.int (bI cj) :: [])) (by rw [c_139]; rfl) ?_
                      refine lv_istore_n (lv' := [(3, .int (bI cj)), (5, .ref (L (100 + k))), (0, .ref (L 0)), (2, .ref q1_), (4, .int (nI k))]) F.x F.cd dX2_reachByPasses_147 rfl hl (by decide) rfl (fun ls hl => ?_)
                      refine lv_iinc (k := 4) (v := (nI (k + 1))) (lv' := [(4, .int (nI (k + 1))), (3, .int (bI cj)), (5, .ref (L (100 + k))), (0, .ref (L 0)), (2, .ref q1_)]) F.x F.cd dX2_reachByPasses_148 hl rfl (inc_nI k 1) (by decide) rfl (fun ls hl => ?_)
                      refine lv_goto (tgt := 54) F.x F.cd dX2_reachByPasses_151 (by decide) ?_
                      exact ih54 (k + 1) σj fj cj (by omega) (hσj) (hRP.skip c_89) H locs ls hW (lv_sub hl [3, 4, 1, 0] rfl)
                    · refine lv_iconst (v := (nI 1)) F.x F.cd dX2_reachByPasses_142 (by decide) ?_
                      refine lv_goto (tgt := 147) F.x F.cd dX2_reachByPasses_143 (by decide) ?_
                      refine W.eq (g2 := F0 m_ 147 ls (.int (bI cj) :: [])) (by rw [c_139]; rfl) ?_
                      refine lv_istore_n (lv' := [(3, .int (bI cj)), (5, .ref (L (100 + k))), (0, .ref (L 0)), (2, .ref q1_), (4, .int (nI k))]) F.x F.cd dX2_reachByPasses_147 rfl hl (by decide) rfl (fun ls hl => ?_)
                      refine lv_iinc (k := 4) (v := (nI (k + 1))) (lv' := [(4, .int (nI (k + 1))), (3, .int (bI cj)), (5, .ref (L (100 + k))), (0, .ref (L 0)), (2, .ref q1_)]) F.x F.cd dX2_reachByPasses_148 hl rfl (inc_nI k 1) (by decide) rfl (fun ls hl => ?_)
                      refine lv_goto (tgt := 54) F.x F.cd dX2_reachByPasses_151 (by decide) ?_
                      exact ih54 (k + 1) σj fj cj (by omega) (hσj) (hRP.skip c_89) H locs ls hW (lv_sub hl [3, 4, 1, 0] rfl)
                  · exact absurd (c_89.symm.trans c_121) (by decide)
              · refine lv_aload_n F.x F.cd dX2_reachByPasses_92 rfl (lv_at hl 2 rfl) ?_
                refine lv_aload F.x F.cd dX2_reachByPasses_93 (lv_at hl 0 rfl) ?_
                refine lv_aload F.x F.cd dX2_reachByPasses_95 (lv_at hl 0 rfl) ?_
                refine s_getN F hW (ci := 9) (C := RX5) (T := TX5) (N := 7) (v := .int (nI (pA v k))) ((hWn.2.2.2.2.2.1 k (by omega)).1) rfl in_X5 0 (by decide) q1069 (fun _ h9 => h9) rfl dX2_reachByPasses_97 ?_
                refine s_callS (As := [.ref q1_, .ref (L (100 + k)), .int (nI (pA v k))]) (rest := []) (n := 3) F hW (k_X2_passes g l σj v q1_ ba (L (100 + k)) (v 0) (tI v a) (pA v k) k fj (e0n) (ebn) hI.1 hba ((hWn.2.2.2.2.2.1 k (by omega)).1) hst hpq.1 hpq.1 hpq.2.1 hpq.2.2.2.1 (by rw [oth_a]; exact Ne.symm hpq.2.2.1)) q898 q899 q69 q900 (by decide +kernel) rfl ⟨⟨Nat.le_of_ble_eq_true rfl, Nat.le_of_ble_eq_true rfl⟩, ⟨(Nat.le_of_ble_eq_true rfl), (Nat.le_of_ble_eq_true rfl)⟩⟩ (Nat.le_of_ble_eq_true rfl) hl.1 rfl dX2_reachByPasses_100 cX_no (fun r20 σ20 H locs hp20 hW => ?_)
                obtain ⟨f2, n1, rfl, hσ2, hA⟩ := hp20
                refine W.eq (g2 := F0 m_ 103 ls (.int (bI n1) :: [])) rfl ?_
                have hσ20 := hσ2
                have w21 : σ20 ba = some (eL g (4 * v 0) f2) := by rw [hσ20]; exact sset_eq
                have f22 : σ20 (L 0) = some (.inr (1, [.ref (L 1), .ref (L 2), .int (nI (v 2)), .int (nI (v 3)), .int (nI (v 4)), .int (nI (v 5))])) := by rw [hσ20, sset_ne (sto_ne ebn hWn.1 (by simp))]; exact hWn.1
                have f23 : σ20 q1_ = some (.inr (14, [.int (nI (tI v a)), .ref ba])) := by rw [hσ20, sset_ne (sto_ne ebn e0n (by simp))]; exact e0n
                have f24 : σ20 (L (100 + k)) = some (.inr (9, [.int (nI (pA v k)), .int (nI (pB v k)), .int (nI (pM v k)), .int (nI (pV v k)), .int (nI (pR v k)), .int (nI (pD v k)), .int (nI (pL v k))])) := by rw [hσ20, sset_ne (sto_ne ebn ((hWn.2.2.2.2.2.1 k (by omega)).1) (by simp))]; exact (hWn.2.2.2.2.2.1 k (by omega)).1
                refine b_if_ne (b := n1) (tgt := 110) F dX2_reachByPasses_103 (by decide) (fun c_103 => ?_) (fun c_103 => ?_)
                · refine lv_iconst (v := (nI 1)) F.x F.cd dX2_reachByPasses_110 (by decide) ?_
                  refine lv_goto (tgt := 115) F.x F.cd dX2_reachByPasses_111 (by decide) ?_
                  refine W.eq (g2 := F0 m_ 115 ls (.int (bI (n1 || cj)) :: [])) (by rw [show (n1 || cj) = true by rw [c_103]; rfl]; rfl) ?_
                  refine lv_istore_n (lv' := [(3, .int (bI (n1 || cj))), (5, .ref (L (100 + k))), (0, .ref (L 0)), (2, .ref q1_), (4, .int (nI k))]) F.x F.cd dX2_reachByPasses_115 rfl hl (by decide) rfl (fun ls hl => ?_)
                  refine lv_aload F.x F.cd dX2_reachByPasses_116 (lv_at hl 1 rfl) ?_
                  refine s_callV (As := []) (rest := []) (C := RX5) (T := TX5) (N := 7) (n := 0) F hW (k_X5_isOpen g l σ20 (L (100 + k)) (pA v k) (pB v k) (pM v k) (pV v k) (pR v k) (pD v k) (pL v k) (f24) (by omega) (by omega)) (f24) rfl q698 q672 q673 q96 q674 rfl (by decide +kernel) rfl ⟨⟨Nat.le_of_ble_eq_true rfl, Nat.le_of_ble_eq_true rfl⟩, ⟨(Nat.le_of_ble_eq_true rfl), (Nat.le_of_ble_eq_true rfl)⟩⟩ (Nat.le_of_ble_eq_true rfl) hl.1 rfl dX2_reachByPasses_118 cX_no (fun r25 σ25 H locs hp25 hW => ?_)
                  obtain ⟨rfl, hs25⟩ := hp25
                  rw [hs25] at hW
                  refine W.eq (g2 := F0 m_ 121 ls (.int (bI (opn (pV v k) (pD v k))) :: [])) rfl ?_
                  refine b_if_eq (b := (opn (pV v k) (pD v k))) (tgt := 138) F dX2_reachByPasses_121 (by decide) (fun c_121 => ?_) (fun c_121 => ?_)
                  · exact absurd (c_89.symm.trans c_121) (by decide)
                  · refine lv_aload_n F.x F.cd dX2_reachByPasses_124 rfl (lv_at hl 3 rfl) ?_
                    refine lv_aload F.x F.cd dX2_reachByPasses_125 (lv_at hl 1 rfl) ?_
                    refine lv_aload F.x F.cd dX2_reachByPasses_127 (lv_at hl 1 rfl) ?_
                    refine s_getN F hW (ci := 9) (C := RX5) (T := TX5) (N := 7) (v := .int (nI (pB v k))) (f24) rfl in_X5 1 (by decide) q1073 (fun _ h9 => h9) rfl dX2_reachByPasses_129 ?_
                    refine s_callS (As := [.ref q1_, .ref (L (100 + k)), .int (nI (pB v k))]) (rest := []) (n := 3) F hW (k_X2_passes g l σ20 v q1_ ba (L (100 + k)) (v 0) (tI v a) (pB v k) k f2 (f23) (w21) hI.1 hba (f24) hst hpq.2.1 hpq.1 hpq.2.1 hpq.2.2.2.1 (by rw [oth_b hpq.2.2.1]; exact hpq.2.2.1)) q898 q899 q69 q900 (by decide +kernel) rfl ⟨⟨Nat.le_of_ble_eq_true rfl, Nat.le_of_ble_eq_true rfl⟩, ⟨(Nat.le_of_ble_eq_true rfl), (Nat.le_of_ble_eq_true rfl)⟩⟩ (Nat.le_of_ble_eq_true rfl) hl.1 rfl dX2_reachByPasses_132 cX_no (fun r26 σ26 H locs hp26 hW => ?_)
                    obtain ⟨f3, n2, rfl, hσ3, hB⟩ := hp26
                    refine W.eq (g2 := F0 m_ 135 ls (.int (bI n2) :: [])) rfl ?_
                    have hσ26 := hσ3
                    have w27 : σ26 ba = some (eL g (4 * v 0) f3) := by rw [hσ26]; exact sset_eq
                    have f28 : σ26 (L 0) = some (.inr (1, [.ref (L 1), .ref (L 2), .int (nI (v 2)), .int (nI (v 3)), .int (nI (v 4)), .int (nI (v 5))])) := by rw [hσ26, sset_ne (sto_ne w21 f22 (by simp))]; exact f22
                    have f29 : σ26 q1_ = some (.inr (14, [.int (nI (tI v a)), .ref ba])) := by rw [hσ26, sset_ne (sto_ne w21 f23 (by simp))]; exact f23
                    have f30 : σ26 (L (100 + k)) = some (.inr (9, [.int (nI (pA v k)), .int (nI (pB v k)), .int (nI (pM v k)), .int (nI (pV v k)), .int (nI (pR v k)), .int (nI (pD v k)), .int (nI (pL v k))])) := by rw [hσ26, sset_ne (sto_ne w21 f24 (by simp))]; exact f24
                    refine b_if_ne (b := n2) (tgt := 142) F dX2_reachByPasses_135 (by decide) (fun c_135 => ?_) (fun c_135 => ?_)
                    · refine lv_iconst (v := (nI 1)) F.x F.cd dX2_reachByPasses_142 (by decide) ?_
                      refine lv_goto (tgt := 147) F.x F.cd dX2_reachByPasses_143 (by decide) ?_
                      refine W.eq (g2 := F0 m_ 147 ls (.int (bI (n2 || (n1 || cj))) :: [])) (by rw [show (n2 || (n1 || cj)) = true by rw [c_135]; rfl]; rfl) ?_
                      refine lv_istore_n (lv' := [(3, .int (bI (n2 || (n1 || cj)))), (5, .ref (L (100 + k))), (0, .ref (L 0)), (2, .ref q1_), (4, .int (nI k))]) F.x F.cd dX2_reachByPasses_147 rfl hl (by decide) rfl (fun ls hl => ?_)
                      refine lv_iinc (k := 4) (v := (nI (k + 1))) (lv' := [(4, .int (nI (k + 1))), (3, .int (bI (n2 || (n1 || cj)))), (5, .ref (L (100 + k))), (0, .ref (L 0)), (2, .ref q1_)]) F.x F.cd dX2_reachByPasses_148 hl rfl (inc_nI k 1) (by decide) rfl (fun ls hl => ?_)
                      refine lv_goto (tgt := 54) F.x F.cd dX2_reachByPasses_151 (by decide) ?_
                      exact ih54 (k + 1) σ26 f3 _ (by omega) (by rw [hσ3, hσ2, hσj, sset_sset, sset_sset]) (hRP.step hI hst (by omega) c_89 hA hB) H locs ls hW (lv_sub hl [3, 4, 1, 0] rfl)
                    · refine lv_iload_n F.x F.cd dX2_reachByPasses_138 rfl (lv_at hl 0 rfl) ?_
                      refine b_if_eq (b := (n1 || cj)) (tgt := 146) F dX2_reachByPasses_139 (by decide) (fun c_139 => ?_) (fun c_139 => ?_)
                      · refine lv_iconst (v := (nI 0)) F.x F.cd dX2_reachByPasses_146 (by decide) ?_
                        refine W.eq (g2 := F0 m_ 147 ls (.int (bI (n2 || (n1 || cj))) :: [])) (by rw [show (n2 || (n1 || cj)) = false by rw [c_135, c_139]; rfl]; rfl) ?_
                        refine lv_istore_n (lv' := [(3, .int (bI (n2 || (n1 || cj)))), (5, .ref (L (100 + k))), (0, .ref (L 0)), (2, .ref q1_), (4, .int (nI k))]) F.x F.cd dX2_reachByPasses_147 rfl hl (by decide) rfl (fun ls hl => ?_)
                        refine lv_iinc (k := 4) (v := (nI (k + 1))) (lv' := [(4, .int (nI (k + 1))), (3, .int (bI (n2 || (n1 || cj)))), (5, .ref (L (100 + k))), (0, .ref (L 0)), (2, .ref q1_)]) F.x F.cd dX2_reachByPasses_148 hl rfl (inc_nI k 1) (by decide) rfl (fun ls hl => ?_)
                        refine lv_goto (tgt := 54) F.x F.cd dX2_reachByPasses_151 (by decide) ?_
                        exact ih54 (k + 1) σ26 f3 _ (by omega) (by rw [hσ3, hσ2, hσj, sset_sset, sset_sset]) (hRP.step hI hst (by omega) c_89 hA hB) H locs ls hW (lv_sub hl [3, 4, 1, 0] rfl)
                      · refine lv_iconst (v := (nI 1)) F.x F.cd dX2_reachByPasses_142 (by decide) ?_
                        refine lv_goto (tgt := 147) F.x F.cd dX2_reachByPasses_143 (by decide) ?_
                        refine W.eq (g2 := F0 m_ 147 ls (.int (bI (n2 || (n1 || cj))) :: [])) (by rw [show (n2 || (n1 || cj)) = true by rw [c_135, c_139]; rfl]; rfl) ?_
                        refine lv_istore_n (lv' := [(3, .int (bI (n2 || (n1 || cj)))), (5, .ref (L (100 + k))), (0, .ref (L 0)), (2, .ref q1_), (4, .int (nI k))]) F.x F.cd dX2_reachByPasses_147 rfl hl (by decide) rfl (fun ls hl => ?_)
                        refine lv_iinc (k := 4) (v := (nI (k + 1))) (lv' := [(4, .int (nI (k + 1))), (3, .int (bI (n2 || (n1 || cj)))), (5, .ref (L (100 + k))), (0, .ref (L 0)), (2, .ref q1_)]) F.x F.cd dX2_reachByPasses_148 hl rfl (inc_nI k 1) (by decide) rfl (fun ls hl => ?_)
                        refine lv_goto (tgt := 54) F.x F.cd dX2_reachByPasses_151 (by decide) ?_
                        exact ih54 (k + 1) σ26 f3 _ (by omega) (by rw [hσ3, hσ2, hσj, sset_sset, sset_sset]) (hRP.step hI hst (by omega) c_89 hA hB) H locs ls hW (lv_sub hl [3, 4, 1, 0] rfl)
                · refine lv_iload_n F.x F.cd dX2_reachByPasses_106 rfl (lv_at hl 3 rfl) ?_
                  refine b_if_eq (b := cj) (tgt := 114) F dX2_reachByPasses_107 (by decide) (fun c_107 => ?_) (fun c_107 => ?_)
                  · refine lv_iconst (v := (nI 0)) F.x F.cd dX2_reachByPasses_114 (by decide) ?_
                    refine W.eq (g2 := F0 m_ 115 ls (.int (bI (n1 || cj)) :: [])) (by rw [show (n1 || cj) = false by rw [c_103, c_107]; rfl]; rfl) ?_
                    refine lv_istore_n (lv' := [(3, .int (bI (n1 || cj))), (5, .ref (L (100 + k))), (0, .ref (L 0)), (2, .ref q1_), (4, .int (nI k))]) F.x F.cd dX2_reachByPasses_115 rfl hl (by decide) rfl (fun ls hl => ?_)
                    refine lv_aload F.x F.cd dX2_reachByPasses_116 (lv_at hl 1 rfl) ?_
                    refine s_callV (As := []) (rest := []) (C := RX5) (T := TX5) (N := 7) (n := 0) F hW (k_X5_isOpen g l σ20 (L (100 + k)) (pA v k) (pB v k) (pM v k) (pV v k) (pR v k) (pD v k) (pL v k) (f24) (by omega) (by omega)) (f24) rfl q698 q672 q673 q96 q674 rfl (by decide +kernel) rfl ⟨⟨Nat.le_of_ble_eq_true rfl, Nat.le_of_ble_eq_true rfl⟩, ⟨(Nat.le_of_ble_eq_true rfl), (Nat.le_of_ble_eq_true rfl)⟩⟩ (Nat.le_of_ble_eq_true rfl) hl.1 rfl dX2_reachByPasses_118 cX_no (fun r31 σ31 H locs hp31 hW => ?_)
                    obtain ⟨rfl, hs31⟩ := hp31
                    rw [hs31] at hW
                    refine W.eq (g2 := F0 m_ 121 ls (.int (bI (opn (pV v k) (pD v k))) :: [])) rfl ?_
                    refine b_if_eq (b := (opn (pV v k) (pD v k))) (tgt := 138) F dX2_reachByPasses_121 (by decide) (fun c_121 => ?_) (fun c_121 => ?_)
                    · exact absurd (c_89.symm.trans c_121) (by decide)
                    · refine lv_aload_n F.x F.cd dX2_reachByPasses_124 rfl (lv_at hl 3 rfl) ?_
                      refine lv_aload F.x F.cd dX2_reachByPasses_125 (lv_at hl 1 rfl) ?_
                      refine lv_aload F.x F.cd dX2_reachByPasses_127 (lv_at hl 1 rfl) ?_
                      refine s_getN F hW (ci := 9) (C := RX5) (T := TX5) (N := 7) (v := .int (nI (pB v k))) (f24) rfl in_X5 1 (by decide) q1073 (fun _ h9 => h9) rfl dX2_reachByPasses_129 ?_
                      refine s_callS (As := [.ref q1_, .ref (L (100 + k)), .int (nI (pB v k))]) (rest := []) (n := 3) F hW (k_X2_passes g l σ20 v q1_ ba (L (100 + k)) (v 0) (tI v a) (pB v k) k f2 (f23) (w21) hI.1 hba (f24) hst hpq.2.1 hpq.1 hpq.2.1 hpq.2.2.2.1 (by rw [oth_b hpq.2.2.1]; exact hpq.2.2.1)) q898 q899 q69 q900 (by decide +kernel) rfl ⟨⟨Nat.le_of_ble_eq_true rfl, Nat.le_of_ble_eq_true rfl⟩, ⟨(Nat.le_of_ble_eq_true rfl), (Nat.le_of_ble_eq_true rfl)⟩⟩ (Nat.le_of_ble_eq_true rfl) hl.1 rfl dX2_reachByPasses_132 cX_no (fun r32 σ32 H locs hp32 hW => ?_)
                      obtain ⟨f3, n2, rfl, hσ3, hB⟩ := hp32
                      refine W.eq (g2 := F0 m_ 135 ls (.int (bI n2) :: [])) rfl ?_
                      have hσ32 := hσ3
                      have w33 : σ32 ba = some (eL g (4 * v 0) f3) := by rw [hσ32]; exact sset_eq
                      have f34 : σ32 (L 0) = some (.inr (1, [.ref (L 1), .ref (L 2), .int (nI (v 2)), .int (nI (v 3)), .int (nI (v 4)), .int (nI (v 5))])) := by rw [hσ32, sset_ne (sto_ne w21 f22 (by simp))]; exact f22
                      have f35 : σ32 q1_ = some (.inr (14, [.int (nI (tI v a)), .ref ba])) := by rw [hσ32, sset_ne (sto_ne w21 f23 (by simp))]; exact f23
                      have f36 : σ32 (L (100 + k)) = some (.inr (9, [.int (nI (pA v k)), .int (nI (pB v k)), .int (nI (pM v k)), .int (nI (pV v k)), .int (nI (pR v k)), .int (nI (pD v k)), .int (nI (pL v k))])) := by rw [hσ32, sset_ne (sto_ne w21 f24 (by simp))]; exact f24
                      refine b_if_ne (b := n2) (tgt := 142) F dX2_reachByPasses_135 (by decide) (fun c_135 => ?_) (fun c_135 => ?_)
                      · refine lv_iconst (v := (nI 1)) F.x F.cd dX2_reachByPasses_142 (by decide) ?_
                        refine lv_goto (tgt := 147) F.x F.cd dX2_reachByPasses_143 (by decide) ?_
                        refine W.eq (g2 := F0 m_ 147 ls (.int (bI (n2 || (n1 || cj))) :: [])) (by rw [show (n2 || (n1 || cj)) = true by rw [c_135]; rfl]; rfl) ?_
                        refine lv_istore_n (lv' := [(3, .int (bI (n2 || (n1 || cj)))), (5, .ref (L (100 + k))), (0, .ref (L 0)), (2, .ref q1_), (4, .int (nI k))]) F.x F.cd dX2_reachByPasses_147 rfl hl (by decide) rfl (fun ls hl => ?_)
                        refine lv_iinc (k := 4) (v := (nI (k + 1))) (lv' := [(4, .int (nI (k + 1))), (3, .int (bI (n2 || (n1 || cj)))), (5, .ref (L (100 + k))), (0, .ref (L 0)), (2, .ref q1_)]) F.x F.cd dX2_reachByPasses_148 hl rfl (inc_nI k 1) (by decide) rfl (fun ls hl => ?_)
                        refine lv_goto (tgt := 54) F.x F.cd dX2_reachByPasses_151 (by decide) ?_
                        exact ih54 (k + 1) σ32 f3 _ (by omega) (by rw [hσ3, hσ2, hσj, sset_sset, sset_sset]) (hRP.step hI hst (by omega) c_89 hA hB) H locs ls hW (lv_sub hl [3, 4, 1, 0] rfl)
                      · refine lv_iload_n F.x F.cd dX2_reachByPasses_138 rfl (lv_at hl 0 rfl) ?_
                        refine b_if_eq (b := (n1 || cj)) (tgt := 146) F dX2_reachByPasses_139 (by decide) (fun c_139 => ?_) (fun c_139 => ?_)
                        · refine lv_iconst (v := (nI 0)) F.x F.cd dX2_reachByPasses_146 (by decide) ?_
                          refine W.eq (g2 := F0 m_ 147 ls (.int (bI (n2 || (n1 || cj))) :: [])) (by rw [show (n2 || (n1 || cj)) = false by rw [c_135, c_139]; rfl]; rfl) ?_
                          refine lv_istore_n (lv' := [(3, .int (bI (n2 || (n1 || cj)))), (5, .ref (L (100 + k))), (0, .ref (L 0)), (2, .ref q1_), (4, .int (nI k))]) F.x F.cd dX2_reachByPasses_147 rfl hl (by decide) rfl (fun ls hl => ?_)
                          refine lv_iinc (k := 4) (v := (nI (k + 1))) (lv' := [(4, .int (nI (k + 1))), (3, .int (bI (n2 || (n1 || cj)))), (5, .ref (L (100 + k))), (0, .ref (L 0)), (2, .ref q1_)]) F.x F.cd dX2_reachByPasses_148 hl rfl (inc_nI k 1) (by decide) rfl (fun ls hl => ?_)
                          refine lv_goto (tgt := 54) F.x F.cd dX2_reachByPasses_151 (by decide) ?_
                          exact ih54 (k + 1) σ32 f3 _ (by omega) (by rw [hσ3, hσ2, hσj, sset_sset, sset_sset]) (hRP.step hI hst (by omega) c_89 hA hB) H locs ls hW (lv_sub hl [3, 4, 1, 0] rfl)
                        · refine lv_iconst (v := (nI 1)) F.x F.cd dX2_reachByPasses_142 (by decide) ?_
                          refine lv_goto (tgt := 147) F.x F.cd dX2_reachByPasses_143 (by decide) ?_
                          refine W.eq (g2 := F0 m_ 147 ls (.int (bI (n2 || (n1 || cj))) :: [])) (by rw [show (n2 || (n1 || cj)) = true by rw [c_135, c_139]; rfl]; rfl) ?_
                          refine lv_istore_n (lv' := [(3, .int (bI (n2 || (n1 || cj)))), (5, .ref (L (100 + k))), (0, .ref (L 0)), (2, .ref q1_), (4, .int (nI k))]) F.x F.cd dX2_reachByPasses_147 rfl hl (by decide) rfl (fun ls hl => ?_)
                          refine lv_iinc (k := 4) (v := (nI (k + 1))) (lv' := [(4, .int (nI (k + 1))), (3, .int (bI (n2 || (n1 || cj)))), (5, .ref (L (100 + k))), (0, .ref (L 0)), (2, .ref q1_)]) F.x F.cd dX2_reachByPasses_148 hl rfl (inc_nI k 1) (by decide) rfl (fun ls hl => ?_)
                          refine lv_goto (tgt := 54) F.x F.cd dX2_reachByPasses_151 (by decide) ?_
                          exact ih54 (k + 1) σ32 f3 _ (by omega) (by rw [hσ3, hσ2, hσj, sset_sset, sset_sset]) (hRP.step hI hst (by omega) c_89 hA hB) H locs ls hW (lv_sub hl [3, 4, 1, 0] rfl)
                  · refine lv_iconst (v := (nI 1)) F.x F.cd dX2_reachByPasses_110 (by decide) ?_
                    refine lv_goto (tgt := 115) F.x F.cd dX2_reachByPasses_111 (by decide) ?_
                    refine W.eq (g2 := F0 m_ 115 ls (.int (bI (n1 || cj)) :: [])) (by rw [show (n1 || cj) = true by rw [c_103, c_107]; rfl]; rfl) ?_
                    refine lv_istore_n (lv' := [(3, .int (bI (n1 || cj))), (5, .ref (L (100 + k))), (0, .ref (L 0)), (2, .ref q1_), (4, .int (nI k))]) F.x F.cd dX2_reachByPasses_115 rfl hl (by decide) rfl (fun ls hl => ?_)
                    refine lv_aload F.x F.cd dX2_reachByPasses_116 (lv_at hl 1 rfl) ?_
                    refine s_callV (As := []) (rest := []) (C := RX5) (T := TX5) (N := 7) (n := 0) F hW (k_X5_isOpen g l σ20 (L (100 + k)) (pA v k) (pB v k) (pM v k) (pV v k) (pR v k) (pD v k) (pL v k) (f24) (by omega) (by omega)) (f24) rfl q698 q672 q673 q96 q674 rfl (by decide +kernel) rfl ⟨⟨Nat.le_of_ble_eq_true rfl, Nat.le_of_ble_eq_true rfl⟩, ⟨(Nat.le_of_ble_eq_true rfl), (Nat.le_of_ble_eq_true rfl)⟩⟩ (Nat.le_of_ble_eq_true rfl) hl.1 rfl dX2_reachByPasses_118 cX_no (fun r37 σ37 H locs hp37 hW => ?_)
                    obtain ⟨rfl, hs37⟩ := hp37
                    rw [hs37] at hW
                    refine W.eq (g2 := F0 m_ 121 ls (.int (bI (opn (pV v k) (pD v k))) :: [])) rfl ?_
                    refine b_if_eq (b := (opn (pV v k) (pD v k))) (tgt := 138) F dX2_reachByPasses_121 (by decide) (fun c_121 => ?_) (fun c_121 => ?_)
                    · exact absurd (c_89.symm.trans c_121) (by decide)
                    · refine lv_aload_n F.x F.cd dX2_reachByPasses_124 rfl (lv_at hl 3 rfl) ?_
                      refine lv_aload F.x F.cd dX2_reachByPasses_125 (lv_at hl 1 rfl) ?_
                      refine lv_aload F.x F.cd dX2_reachByPasses_127 (lv_at hl 1 rfl) ?_
                      refine s_getN F hW (ci := 9) (C := RX5) (T := TX5) (N := 7) (v := .int (nI (pB v k))) (f24) rfl in_X5 1 (by decide) q1073 (fun _ h9 => h9) rfl dX2_reachByPasses_129 ?_
                      refine s_callS (As := [.ref q1_, .ref (L (100 + k)), .int (nI (pB v k))]) (rest := []) (n := 3) F hW (k_X2_passes g l σ20 v q1_ ba (L (100 + k)) (v 0) (tI v a) (pB v k) k f2 (f23) (w21) hI.1 hba (f24) hst hpq.2.1 hpq.1 hpq.2.1 hpq.2.2.2.1 (by rw [oth_b hpq.2.2.1]; exact hpq.2.2.1)) q898 q899 q69 q900 (by decide +kernel) rfl ⟨⟨Nat.le_of_ble_eq_true rfl, Nat.le_of_ble_eq_true rfl⟩, ⟨(Nat.le_of_ble_eq_true rfl), (Nat.le_of_ble_eq_true rfl)⟩⟩ (Nat.le_of_ble_eq_true rfl) hl.1 rfl dX2_reachByPasses_132 cX_no (fun r38 σ38 H locs hp38 hW => ?_)
                      obtain ⟨f3, n2, rfl, hσ3, hB⟩ := hp38
                      refine W.eq (g2 := F0 m_ 135 ls (.int (bI n2) :: [])) rfl ?_
                      have hσ38 := hσ3
                      have w39 : σ38 ba = some (eL g (4 * v 0) f3) := by rw [hσ38]; exact sset_eq
                      have f40 : σ38 (L 0) = some (.inr (1, [.ref (L 1), .ref (L 2), .int (nI (v 2)), .int (nI (v 3)), .int (nI (v 4)), .int (nI (v 5))])) := by rw [hσ38, sset_ne (sto_ne w21 f22 (by simp))]; exact f22
                      have f41 : σ38 q1_ = some (.inr (14, [.int (nI (tI v a)), .ref ba])) := by rw [hσ38, sset_ne (sto_ne w21 f23 (by simp))]; exact f23
                      have f42 : σ38 (L (100 + k)) = some (.inr (9, [.int (nI (pA v k)), .int (nI (pB v k)), .int (nI (pM v k)), .int (nI (pV v k)), .int (nI (pR v k)), .int (nI (pD v k)), .int (nI (pL v k))])) := by rw [hσ38, sset_ne (sto_ne w21 f24 (by simp))]; exact f24
                      refine b_if_ne (b := n2) (tgt := 142) F dX2_reachByPasses_135 (by decide) (fun c_135 => ?_) (fun c_135 => ?_)
                      · refine lv_iconst (v := (nI 1)) F.x F.cd dX2_reachByPasses_142 (by decide) ?_
                        refine lv_goto (tgt := 147) F.x F.cd dX2_reachByPasses_143 (by decide) ?_
                        refine W.eq (g2 := F0 m_ 147 ls (.int (bI (n2 || (n1 || cj))) :: [])) (by rw [show (n2 || (n1 || cj)) = true by rw [c_135]; rfl]; rfl) ?_
                        refine lv_istore_n (lv' := [(3, .int (bI (n2 || (n1 || cj)))), (5, .ref (L (100 + k))), (0, .ref (L 0)), (2, .ref q1_), (4, .int (nI k))]) F.x F.cd dX2_reachByPasses_147 rfl hl (by decide) rfl (fun ls hl => ?_)
                        refine lv_iinc (k := 4) (v := (nI (k + 1))) (lv' := [(4, .int (nI (k + 1))), (3, .int (bI (n2 || (n1 || cj)))), (5, .ref (L (100 + k))), (0, .ref (L 0)), (2, .ref q1_)]) F.x F.cd dX2_reachByPasses_148 hl rfl (inc_nI k 1) (by decide) rfl (fun ls hl => ?_)
                        refine lv_goto (tgt := 54) F.x F.cd dX2_reachByPasses_151 (by decide) ?_
                        exact ih54 (k + 1) σ38 f3 _ (by omega) (by rw [hσ3, hσ2, hσj, sset_sset, sset_sset]) (hRP.step hI hst (by omega) c_89 hA hB) H locs ls hW (lv_sub hl [3, 4, 1, 0] rfl)
                      · refine lv_iload_n F.x F.cd dX2_reachByPasses_138 rfl (lv_at hl 0 rfl) ?_
                        refine b_if_eq (b := (n1 || cj)) (tgt := 146) F dX2_reachByPasses_139 (by decide) (fun c_139 => ?_) (fun c_139 => ?_)
                        · refine lv_iconst (v := (nI 0)) F.x F.cd dX2_reachByPasses_146 (by decide) ?_
                          refine W.eq (g2 := F0 m_ 147 ls (.int (bI (n2 || (n1 || cj))) :: [])) (by rw [show (n2 || (n1 || cj)) = false by rw [c_135, c_139]; rfl]; rfl) ?_
                          refine lv_istore_n (lv' := [(3, .int (bI (n2 || (n1 || cj)))), (5, .ref (L (100 + k))), (0, .ref (L 0)), (2, .ref q1_), (4, .int (nI k))]) F.x F.cd dX2_reachByPasses_147 rfl hl (by decide) rfl (fun ls hl => ?_)
                          refine lv_iinc (k := 4) (v := (nI (k + 1))) (lv' := [(4, .int (nI (k + 1))), (3, .int (bI (n2 || (n1 || cj)))), (5, .ref (L (100 + k))), (0, .ref (L 0)), (2, .ref q1_)]) F.x F.cd dX2_reachByPasses_148 hl rfl (inc_nI k 1) (by decide) rfl (fun ls hl => ?_)
                          refine lv_goto (tgt := 54) F.x F.cd dX2_reachByPasses_151 (by decide) ?_
                          exact ih54 (k + 1) σ38 f3 _ (by omega) (by rw [hσ3, hσ2, hσj, sset_sset, sset_sset]) (hRP.step hI hst (by omega) c_89 hA hB) H locs ls hW (lv_sub hl [3, 4, 1, 0] rfl)
                        · refine lv_iconst (v := (nI 1)) F.x F.cd dX2_reachByPasses_142 (by decide) ?_
                          refine lv_goto (tgt := 147) F.x F.cd dX2_reachByPasses_143 (by decide) ?_
                          refine W.eq (g2 := F0 m_ 147 ls (.int (bI (n2 || (n1 || cj))) :: [])) (by rw [show (n2 || (n1 || cj)) = true by rw [c_135, c_139]; rfl]; rfl) ?_
                          refine lv_istore_n (lv' := [(3, .int (bI (n2 || (n1 || cj)))), (5, .ref (L (100 + k))), (0, .ref (L 0)), (2, .ref q1_), (4, .int (nI k))]) F.x F.cd dX2_reachByPasses_147 rfl hl (by decide) rfl (fun ls hl => ?_)
                          refine lv_iinc (k := 4) (v := (nI (k + 1))) (lv' := [(4, .int (nI (k + 1))), (3, .int (bI (n2 || (n1 || cj)))), (5, .ref (L (100 + k))), (0, .ref (L 0)), (2, .ref q1_)]) F.x F.cd dX2_reachByPasses_148 hl rfl (inc_nI k 1) (by decide) rfl (fun ls hl => ?_)
                          refine lv_goto (tgt := 54) F.x F.cd dX2_reachByPasses_151 (by decide) ?_
                          exact ih54 (k + 1) σ38 f3 _ (by omega) (by rw [hσ3, hσ2, hσj, sset_sset, sset_sset]) (hRP.step hI hst (by omega) c_89 hA hB) H locs ls hW (lv_sub hl [3, 4, 1, 0] rfl)
        exact loop54 (v 1) 0 _ _ _ (by omega) (hσk) (RP.start hRS) H locs ls hW (lv_sub hl [2, 3, 1, 0] rfl)
  exact loop45 (2049) 0 _ (radd (fun _ => 0) a (tI v a)) true (by omega) (by rw [hσ11]; rfl) (RS.start ha hst) (by rw [rhas_radd hst hst, decide_eq_true ⟨rfl, rfl⟩, Bool.true_or]) (fun _ => Nat.lt_succ_of_le (unvN_b 2048)) (fun h9 => nomatch h9) H locs ls hW (lv_sub hl [2, 1, 0] rfl)
