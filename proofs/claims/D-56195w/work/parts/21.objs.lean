/-! ===== Tank, Pipe ===== -/
set_option maxRecDepth 100000
def ahead (k i k2 i2 : Nat) : Bool := decide (k2 < k ∨ (k = k2 ∧ pops i < pops i2))
def tied (k i k2 i2 : Nat) : Bool := decide (k = k2 ∧ pops i = pops i2)
def opn (s d : Nat) : Bool := decide (0 < s ∧ d < 20)
def tch (a b k : Nat) : Bool := decide (a = k ∨ b = k)
def oth (a b k : Nat) : Nat := if a = k then b else a
set_option maxHeartbeats 4000000 in
theorem k_X4_init (g : Gh) (l : Launch) (σ : Sto) (h a b d : Nat) (e0 : σ h = some (oTank 0 0 0)) (b0 : gB g ≤ h) : Ct g l yX4_init cX4_init 4 none ({ frames := 1, cells := 0, slots := 0, locals := 24 } : Room) [.ref h, .int (nI a), .int (nI b), .int (nI d)] σ (fun r σ' => r = none ∧ σ' = sset σ h (oTank a b d)) (nox) := by
  refine Ct.body (by decide) (Nat.le_of_ble_eq_true rfl) ?_
  intro p_ e_ s_ m_ args_ below_ meth_ c_ ls H locs Q F hW hl hQ
  have hl : lv_has ls 4 [(0, .ref h), (1, .int (nI a)), (2, .int (nI b)), (3, .int (nI d))] := hl
  refine lv_aload_n F.x F.cd dX4_init_0 rfl (lv_at hl 0 rfl) ?_
  refine W.objInit F.x F.cd F.ow (F.ts _ q947) (F.ts _ q123) (F.ts _ q124) rfl (by rw [F.ml]; exact hl.1) rfl dX4_init_1 (Nat.le_of_ble_eq_true rfl) (Nat.le_of_ble_eq_true rfl) ?_
  refine W.eq (g2 := F0 m_ 4 ls ([])) rfl ?_
  refine lv_aload_n F.x F.cd dX4_init_4 rfl (lv_at hl 0 rfl) ?_
  refine lv_iload_n F.x F.cd dX4_init_5 rfl (lv_at hl 1 rfl) ?_
  refine s_putF F hW (ci := 8) (C := RX4) (T := TX4) (N := 3) (v := .int (nI a)) (ty := .int) (e0) (b0) rfl in_X4 tyX4_ok nmX4 0 (by decide) q948 (fun _ h9 => h9) rfl rfl (by decide +kernel) rfl rfl (Nat.le_of_ble_eq_true rfl) dX4_init_6 (fun H locs hW => ?_)
  obtain ⟨σ2, hσ2⟩ : ∃ z, z = sset σ h (.inr (8, [.int (nI a), .int (nI 0), .int (nI 0)])) := ⟨_, rfl⟩
  have hW : Hl g σ2 H locs := by rw [hσ2]; exact hW
  have w2 : σ2 h = some (.inr (8, [.int (nI a), .int (nI 0), .int (nI 0)])) := by rw [hσ2]; exact sset_eq
  refine lv_aload_n F.x F.cd dX4_init_9 rfl (lv_at hl 0 rfl) ?_
  refine lv_iload_n F.x F.cd dX4_init_10 rfl (lv_at hl 2 rfl) ?_
  refine s_put F hW (ci := 8) (C := RX4) (T := TX4) (N := 3) (v := .int (nI b)) (ty := .int) (w2) (b0) rfl in_X4 tyX4_ok nmX4 1 (by decide) q950 (fun _ h9 => h9) rfl (by decide +kernel) rfl rfl (Nat.le_of_ble_eq_true rfl) dX4_init_11 (fun H locs hW => ?_)
  obtain ⟨σ4, hσ4⟩ : ∃ z, z = sset σ2 h (.inr (8, [.int (nI a), .int (nI b), .int (nI 0)])) := ⟨_, rfl⟩
  have hW : Hl g σ4 H locs := by rw [hσ4]; exact hW
  have w4 : σ4 h = some (.inr (8, [.int (nI a), .int (nI b), .int (nI 0)])) := by rw [hσ4]; exact sset_eq
  refine lv_aload_n F.x F.cd dX4_init_14 rfl (lv_at hl 0 rfl) ?_
  refine lv_iload_n F.x F.cd dX4_init_15 rfl (lv_at hl 3 rfl) ?_
  refine s_put F hW (ci := 8) (C := RX4) (T := TX4) (N := 3) (v := .int (nI d)) (ty := .int) (w4) (b0) rfl in_X4 tyX4_ok nmX4 2 (by decide) q953 (fun _ h9 => h9) rfl (by decide +kernel) rfl rfl (Nat.le_of_ble_eq_true rfl) dX4_init_16 (fun H locs hW => ?_)
  obtain ⟨σ6, hσ6⟩ : ∃ z, z = sset σ4 h (.inr (8, [.int (nI a), .int (nI b), .int (nI d)])) := ⟨_, rfl⟩
  have hW : Hl g σ6 H locs := by rw [hσ6]; exact hW
  have w6 : σ6 h = some (.inr (8, [.int (nI a), .int (nI b), .int (nI d)])) := by rw [hσ6]; exact sset_eq
  subst hQ
  exact s_retv F hW (⟨rfl, by rw [hσ6, hσ4, hσ2, sset_sset, sset_sset]⟩) ⟨(Nat.le_of_ble_eq_true rfl), (Nat.le_of_ble_eq_true rfl)⟩ dX4_init_19
set_option maxHeartbeats 4000000 in
theorem k_X4_init_2 (g : Gh) (l : Launch) (σ : Sto) (h a : Nat) (e0 : σ h = some (oTank 0 0 0)) (b0 : gB g ≤ h) : Ct g l yX4_init_2 cX4_init_2 2 none ({ frames := 2, cells := 0, slots := 0, locals := 47 } : Room) [.ref h, .int (nI a)] σ (fun r σ' => r = none ∧ σ' = sset σ h (oTank a 0 0)) (nox) := by
  refine Ct.body (by decide) (Nat.le_of_ble_eq_true rfl) ?_
  intro p_ e_ s_ m_ args_ below_ meth_ c_ ls H locs Q F hW hl hQ
  have hl : lv_has ls 2 [(0, .ref h), (1, .int (nI a))] := hl
  refine lv_aload_n F.x F.cd dX4_init_2_0 rfl (lv_at hl 0 rfl) ?_
  refine lv_iload_n F.x F.cd dX4_init_2_1 rfl (lv_at hl 1 rfl) ?_
  refine lv_iconst (v := (nI 0)) F.x F.cd dX4_init_2_2 (by decide) ?_
  refine lv_iconst (v := (nI 0)) F.x F.cd dX4_init_2_3 (by decide) ?_
  refine s_callI (As := [.int (nI a), .int (nI 0), .int (nI 0)]) (rest := []) (n := 3) F hW (k_X4_init g l σ h a 0 0 (e0) (b0)) q944 q945 q94 q946 rfl (by decide +kernel) rfl ⟨⟨Nat.le_of_ble_eq_true rfl, Nat.le_of_ble_eq_true rfl⟩, ⟨(Nat.le_of_ble_eq_true rfl), (Nat.le_of_ble_eq_true rfl)⟩⟩ (Nat.le_of_ble_eq_true rfl) hl.1 rfl dX4_init_2_4 cX_no (fun r1 σ1 H locs hp1 hW => ?_)
  obtain ⟨rfl, rfl⟩ := hp1
  refine W.eq (g2 := F0 m_ 7 ls ([])) rfl ?_
  obtain ⟨σ1, hσ1⟩ : ∃ z, z = sset σ h (oTank a 0 0) := ⟨_, rfl⟩
  rw [← hσ1] at hW
  have w2 : σ1 h = some (.inr (8, [.int (nI a), .int (nI 0), .int (nI 0)])) := by rw [hσ1]; exact sset_eq
  subst hQ
  exact s_retv F hW (⟨rfl, hσ1⟩) ⟨(Nat.le_of_ble_eq_true rfl), (Nat.le_of_ble_eq_true rfl)⟩ dX4_init_2_7
set_option maxHeartbeats 4000000 in
theorem k_X4_copy (g : Gh) (l : Launch) (σ : Sto) (h d k i : Nat) (e0 : σ h = some (oTank d k i)) : Ct g l yX4_copy cX4_copy 1 (some (.object "FilterWaterworks$Tank")) ({ frames := 2, cells := 1, slots := 3, locals := 47 } : Room) [.ref h] σ (fun r σ' => ∃ q, r = some (.ref q) ∧ σ q = none ∧ gB g ≤ q ∧ σ' = sset σ q (oTank d k i)) (nox) := by
  refine Ct.body (by decide) (Nat.le_of_ble_eq_true rfl) ?_
  intro p_ e_ s_ m_ args_ below_ meth_ c_ ls H locs Q F hW hl hQ
  have hl : lv_has ls 1 [(0, .ref h)] := hl
  refine s_new F hW 8 (C := RX4) (T := TX4) (N := 3) (fs := [.int (nI 0), .int (nI 0), .int (nI 0)]) rfl in_X4 tyX4_ok q942 q943 q94 (fun j hj => by rcases (show j = 0 ∨ j = 1 ∨ j = 2 by omega) with rfl | rfl | rfl <;> rfl) (Nat.le_of_ble_eq_true rfl) (Nat.le_of_ble_eq_true rfl) dX4_copy_0 (fun q1_ H hb_q1_ hn_q1_ hW => ?_)
  obtain ⟨σ2, hσ2⟩ : ∃ z, z = sset σ q1_ (.inr (8, [.int (nI 0), .int (nI 0), .int (nI 0)])) := ⟨_, rfl⟩
  have hW : Hl g σ2 H locs := by rw [hσ2]; exact hW
  have w2 : σ2 q1_ = some (.inr (8, [.int (nI 0), .int (nI 0), .int (nI 0)])) := by rw [hσ2]; exact sset_eq
  have f3 : σ2 h = some (.inr (8, [.int (nI d), .int (nI k), .int (nI i)])) := by rw [hσ2, sset_ne (sto_ne0 hn_q1_ e0)]; exact e0
  refine lv_dup F.x F.cd dX4_copy_3 rfl ?_
  refine lv_aload_n F.x F.cd dX4_copy_4 rfl (lv_at hl 0 rfl) ?_
  refine s_get F hW (ci := 8) (C := RX4) (T := TX4) (N := 3) (v := .int (nI d)) (f3) rfl in_X4 0 (by decide) q948 (fun _ h9 => h9) rfl dX4_copy_5 ?_
  refine lv_aload_n F.x F.cd dX4_copy_8 rfl (lv_at hl 0 rfl) ?_
  refine s_get F hW (ci := 8) (C := RX4) (T := TX4) (N := 3) (v := .int (nI k)) (f3) rfl in_X4 1 (by decide) q950 (fun _ h9 => h9) rfl dX4_copy_9 ?_
  refine lv_aload_n F.x F.cd dX4_copy_12 rfl (lv_at hl 0 rfl) ?_
  refine s_get F hW (ci := 8) (C := RX4) (T := TX4) (N := 3) (v := .int (nI i)) (f3) rfl in_X4 2 (by decide) q953 (fun _ h9 => h9) rfl dX4_copy_13 ?_
  refine s_callI (As := [.int (nI d), .int (nI k), .int (nI i)]) (rest := [.ref q1_]) (n := 3) F hW (k_X4_init g l σ2 q1_ d k i (w2) (hb_q1_)) q944 q945 q94 q946 rfl (by decide +kernel) rfl ⟨⟨Nat.le_of_ble_eq_true rfl, Nat.le_of_ble_eq_true rfl⟩, ⟨(Nat.le_of_ble_eq_true rfl), (Nat.le_of_ble_eq_true rfl)⟩⟩ (Nat.le_of_ble_eq_true rfl) hl.1 rfl dX4_copy_16 cX_no (fun r4 σ4 H locs hp4 hW => ?_)
  obtain ⟨rfl, rfl⟩ := hp4
  refine W.eq (g2 := F0 m_ 19 ls (.ref q1_ :: [])) rfl ?_
  obtain ⟨σ4, hσ4⟩ : ∃ z, z = sset σ2 q1_ (oTank d k i) := ⟨_, rfl⟩
  rw [← hσ4] at hW
  have w5 : σ4 q1_ = some (.inr (8, [.int (nI d), .int (nI k), .int (nI i)])) := by rw [hσ4]; exact sset_eq
  have f6 : σ4 h = some (.inr (8, [.int (nI d), .int (nI k), .int (nI i)])) := by rw [hσ4, sset_ne (sto_ne0 hn_q1_ e0)]; exact f3
  subst hQ
  exact s_reta F hW (Or.inl ⟨_, rfl⟩) (Or.inr ⟨_, rfl⟩) (⟨q1_, rfl, hn_q1_, hb_q1_, by rw [hσ4, hσ2, sset_sset]⟩) ⟨(Nat.le_of_ble_eq_true rfl), (Nat.le_of_ble_eq_true rfl)⟩ dX4_copy_19
set_option maxHeartbeats 4000000 in
theorem k_X4_room (g : Gh) (l : Launch) (σ : Sto) (h d k i : Nat) (e0 : σ h = some (oTank d k i)) (hkd : k ≤ d) : Ct g l yX4_room cX4_room 1 (some .int) ({ frames := 0, cells := 0, slots := 0, locals := 0 } : Room) [.ref h] σ (fun r σ' => r = some (.int (nI (d - k))) ∧ σ' = σ) (nox) := by
  refine Ct.body (by decide) (Nat.le_of_ble_eq_true rfl) ?_
  intro p_ e_ s_ m_ args_ below_ meth_ c_ ls H locs Q F hW hl hQ
  have hl : lv_has ls 1 [(0, .ref h)] := hl
  refine lv_aload_n F.x F.cd dX4_room_0 rfl (lv_at hl 0 rfl) ?_
  refine s_get F hW (ci := 8) (C := RX4) (T := TX4) (N := 3) (v := .int (nI d)) (e0) rfl in_X4 0 (by decide) q948 (fun _ h9 => h9) rfl dX4_room_1 ?_
  refine lv_aload_n F.x F.cd dX4_room_4 rfl (lv_at hl 0 rfl) ?_
  refine s_get F hW (ci := 8) (C := RX4) (T := TX4) (N := 3) (v := .int (nI k)) (e0) rfl in_X4 1 (by decide) q950 (fun _ h9 => h9) rfl dX4_room_5 ?_
  refine a_isub (v := (nI (d - k))) F (pk_sub hkd) dX4_room_8 ?_
  subst hQ
  exact s_reti (v := (nI (d - k))) F hW rfl (⟨rfl, rfl⟩) ⟨(Nat.le_of_ble_eq_true rfl), (Nat.le_of_ble_eq_true rfl)⟩ dX4_room_9
set_option maxHeartbeats 4000000 in
theorem k_X4_fill (g : Gh) (l : Launch) (σ : Sto) (h d k i a b : Nat) (e0 : σ h = some (oTank d k i)) (b0 : gB g ≤ h) : Ct g l yX4_fill cX4_fill 3 none ({ frames := 0, cells := 0, slots := 0, locals := 0 } : Room) [.ref h, .int (nI a), .int (nI b)] σ (fun r σ' => r = none ∧ σ' = sset σ h (oTank d (k + a) (i ||| b))) (nox) := by
  refine Ct.body (by decide) (Nat.le_of_ble_eq_true rfl) ?_
  intro p_ e_ s_ m_ args_ below_ meth_ c_ ls H locs Q F hW hl hQ
  have hl : lv_has ls 3 [(0, .ref h), (1, .int (nI a)), (2, .int (nI b))] := hl
  refine lv_aload_n F.x F.cd dX4_fill_0 rfl (lv_at hl 0 rfl) ?_
  refine lv_dup F.x F.cd dX4_fill_1 rfl ?_
  refine s_get F hW (ci := 8) (C := RX4) (T := TX4) (N := 3) (v := .int (nI k)) (e0) rfl in_X4 1 (by decide) q950 (fun _ h9 => h9) rfl dX4_fill_2 ?_
  refine lv_iload_n F.x F.cd dX4_fill_5 rfl (lv_at hl 1 rfl) ?_
  refine a_iadd (v := (nI (k + a))) F (nI_add _ _) dX4_fill_6 ?_
  refine s_put F hW (ci := 8) (C := RX4) (T := TX4) (N := 3) (v := .int (nI (k + a))) (ty := .int) (e0) (b0) rfl in_X4 tyX4_ok nmX4 1 (by decide) q950 (fun _ h9 => h9) rfl (by decide +kernel) rfl rfl (Nat.le_of_ble_eq_true rfl) dX4_fill_7 (fun H locs hW => ?_)
  obtain ⟨σ2, hσ2⟩ : ∃ z, z = sset σ h (.inr (8, [.int (nI d), .int (nI (k + a)), .int (nI i)])) := ⟨_, rfl⟩
  have hW : Hl g σ2 H locs := by rw [hσ2]; exact hW
  have w2 : σ2 h = some (.inr (8, [.int (nI d), .int (nI (k + a)), .int (nI i)])) := by rw [hσ2]; exact sset_eq
  refine lv_aload_n F.x F.cd dX4_fill_10 rfl (lv_at hl 0 rfl) ?_
  refine lv_dup F.x F.cd dX4_fill_11 rfl ?_
  refine s_get F hW (ci := 8) (C := RX4) (T := TX4) (N := 3) (v := .int (nI i)) (w2) rfl in_X4 2 (by decide) q953 (fun _ h9 => h9) rfl dX4_fill_12 ?_
  refine lv_iload_n F.x F.cd dX4_fill_15 rfl (lv_at hl 2 rfl) ?_
  refine a_ior (v := (nI (i ||| b))) F (nI_or _ _) dX4_fill_16 ?_
  refine s_put F hW (ci := 8) (C := RX4) (T := TX4) (N := 3) (v := .int (nI (i ||| b))) (ty := .int) (w2) (b0) rfl in_X4 tyX4_ok nmX4 2 (by decide) q953 (fun _ h9 => h9) rfl (by decide +kernel) rfl rfl (Nat.le_of_ble_eq_true rfl) dX4_fill_17 (fun H locs hW => ?_)
  obtain ⟨σ4, hσ4⟩ : ∃ z, z = sset σ2 h (.inr (8, [.int (nI d), .int (nI (k + a)), .int (nI (i ||| b))])) := ⟨_, rfl⟩
  have hW : Hl g σ4 H locs := by rw [hσ4]; exact hW
  have w4 : σ4 h = some (.inr (8, [.int (nI d), .int (nI (k + a)), .int (nI (i ||| b))])) := by rw [hσ4]; exact sset_eq
  subst hQ
  exact s_retv F hW (⟨rfl, by rw [hσ4, hσ2, sset_sset]⟩) ⟨(Nat.le_of_ble_eq_true rfl), (Nat.le_of_ble_eq_true rfl)⟩ dX4_fill_20
set_option maxHeartbeats 4000000 in
theorem k_X4_drain (g : Gh) (l : Launch) (σ : Sto) (h d k i a : Nat) (e0 : σ h = some (oTank d k i)) (b0 : gB g ≤ h) (hak : a ≤ k) (hk : k < 2 ^ 31) : Ct g l yX4_drain cX4_drain 2 none ({ frames := 0, cells := 0, slots := 0, locals := 0 } : Room) [.ref h, .int (nI a)] σ (fun r σ' => r = none ∧ σ' = sset σ h (oTank d (k - a) (if k - a = 0 then 0 else i))) (nox) := by
  refine Ct.body (by decide) (Nat.le_of_ble_eq_true rfl) ?_
  intro p_ e_ s_ m_ args_ below_ meth_ c_ ls H locs Q F hW hl hQ
  have hl : lv_has ls 2 [(0, .ref h), (1, .int (nI a))] := hl
  refine lv_aload_n F.x F.cd dX4_drain_0 rfl (lv_at hl 0 rfl) ?_
  refine lv_dup F.x F.cd dX4_drain_1 rfl ?_
  refine s_get F hW (ci := 8) (C := RX4) (T := TX4) (N := 3) (v := .int (nI k)) (e0) rfl in_X4 1 (by decide) q950 (fun _ h9 => h9) rfl dX4_drain_2 ?_
  refine lv_iload_n F.x F.cd dX4_drain_5 rfl (lv_at hl 1 rfl) ?_
  refine a_isub (v := (nI (k - a))) F (pk_sub hak) dX4_drain_6 ?_
  refine s_put F hW (ci := 8) (C := RX4) (T := TX4) (N := 3) (v := .int (nI (k - a))) (ty := .int) (e0) (b0) rfl in_X4 tyX4_ok nmX4 1 (by decide) q950 (fun _ h9 => h9) rfl (by decide +kernel) rfl rfl (Nat.le_of_ble_eq_true rfl) dX4_drain_7 (fun H locs hW => ?_)
  obtain ⟨σ2, hσ2⟩ : ∃ z, z = sset σ h (.inr (8, [.int (nI d), .int (nI (k - a)), .int (nI i)])) := ⟨_, rfl⟩
  have hW : Hl g σ2 H locs := by rw [hσ2]; exact hW
  have w2 : σ2 h = some (.inr (8, [.int (nI d), .int (nI (k - a)), .int (nI i)])) := by rw [hσ2]; exact sset_eq
  refine lv_aload_n F.x F.cd dX4_drain_10 rfl (lv_at hl 0 rfl) ?_
  refine lv_aload_n F.x F.cd dX4_drain_11 rfl (lv_at hl 0 rfl) ?_
  refine s_get F hW (ci := 8) (C := RX4) (T := TX4) (N := 3) (v := .int (nI (k - a))) (w2) rfl in_X4 1 (by decide) q950 (fun _ h9 => h9) rfl dX4_drain_12 ?_
  refine n_if_ne (a := k - a) (tgt := 22) F (by omega) dX4_drain_15 (by decide) (fun c_15 => ?_) (fun c_15 => ?_)
  · refine lv_aload_n F.x F.cd dX4_drain_22 rfl (lv_at hl 0 rfl) ?_
    refine s_get F hW (ci := 8) (C := RX4) (T := TX4) (N := 3) (v := .int (nI i)) (w2) rfl in_X4 2 (by decide) q953 (fun _ h9 => h9) rfl dX4_drain_23 ?_
    refine s_put F hW (ci := 8) (C := RX4) (T := TX4) (N := 3) (v := .int (nI i)) (ty := .int) (w2) (b0) rfl in_X4 tyX4_ok nmX4 2 (by decide) q953 (fun _ h9 => h9) rfl (by decide +kernel) rfl rfl (Nat.le_of_ble_eq_true rfl) dX4_drain_26 (fun H locs hW => ?_)
    obtain ⟨σ4, hσ4⟩ : ∃ z, z = sset σ2 h (.inr (8, [.int (nI d), .int (nI (k - a)), .int (nI i)])) := ⟨_, rfl⟩
    have hW : Hl g σ4 H locs := by rw [hσ4]; exact hW
    have w4 : σ4 h = some (.inr (8, [.int (nI d), .int (nI (k - a)), .int (nI i)])) := by rw [hσ4]; exact sset_eq
    subst hQ
    exact s_retv F hW (⟨rfl, by rw [hσ4, hσ2, sset_sset, if_neg c_15]⟩) ⟨(Nat.le_of_ble_eq_true rfl), (Nat.le_of_ble_eq_true rfl)⟩ dX4_drain_29
  · refine lv_iconst (v := (nI 0)) F.x F.cd dX4_drain_18 (by decide) ?_
    refine lv_goto (tgt := 26) F.x F.cd dX4_drain_19 (by decide) ?_
    refine s_put F hW (ci := 8) (C := RX4) (T := TX4) (N := 3) (v := .int (nI 0)) (ty := .int) (w2) (b0) rfl in_X4 tyX4_ok nmX4 2 (by decide) q953 (fun _ h9 => h9) rfl (by decide +kernel) rfl rfl (Nat.le_of_ble_eq_true rfl) dX4_drain_26 (fun H locs hW => ?_)
    obtain ⟨σ6, hσ6⟩ : ∃ z, z = sset σ2 h (.inr (8, [.int (nI d), .int (nI (k - a)), .int (nI 0)])) := ⟨_, rfl⟩
    have hW : Hl g σ6 H locs := by rw [hσ6]; exact hW
    have w6 : σ6 h = some (.inr (8, [.int (nI d), .int (nI (k - a)), .int (nI 0)])) := by rw [hσ6]; exact sset_eq
    subst hQ
    exact s_retv F hW (⟨rfl, by rw [hσ6, hσ2, sset_sset, if_pos c_15]⟩) ⟨(Nat.le_of_ble_eq_true rfl), (Nat.le_of_ble_eq_true rfl)⟩ dX4_drain_29
set_option maxHeartbeats 4000000 in
theorem k_X4_isAheadOf (g : Gh) (l : Launch) (σ : Sto) (h d k i h2 d2 k2 i2 : Nat) (e0 : σ h = some (oTank d k i)) (e2 : σ h2 = some (oTank d2 k2 i2)) (hk : k < 2 ^ 30) (hk2 : k2 < 2 ^ 30) (hi : i < 256) (hi2 : i2 < 256) : Ct g l yX4_isAheadOf cX4_isAheadOf 4 (some .boolean) ({ frames := 0, cells := 0, slots := 0, locals := 0 } : Room) [.ref h, .ref h2] σ (fun r σ' => r = some (.int (bI (ahead k i k2 i2))) ∧ σ' = σ) (nox) := by
  refine Ct.body (by decide) (Nat.le_of_ble_eq_true rfl) ?_
  intro p_ e_ s_ m_ args_ below_ meth_ c_ ls H locs Q F hW hl hQ
  have hl : lv_has ls 4 [(0, .ref h), (1, .ref h2)] := hl
  have hp1 : pops i < 2 ^ 30 := Nat.lt_of_le_of_lt (pops_lt i hi) (by decide)
  have hp2 : pops i2 < 2 ^ 30 := Nat.lt_of_le_of_lt (pops_lt i2 hi2) (by decide)
  refine lv_aload_n F.x F.cd dX4_isAheadOf_0 rfl (lv_at hl 0 rfl) ?_
  refine s_get F hW (ci := 8) (C := RX4) (T := TX4) (N := 3) (v := .int (nI k)) (e0) rfl in_X4 1 (by decide) q950 (fun _ h9 => h9) rfl dX4_isAheadOf_1 ?_
  refine lv_aload_n F.x F.cd dX4_isAheadOf_4 rfl (lv_at hl 1 rfl) ?_
  refine s_get F hW (ci := 8) (C := RX4) (T := TX4) (N := 3) (v := .int (nI k2)) (e2) rfl in_X4 1 (by decide) q950 (fun _ h9 => h9) rfl dX4_isAheadOf_5 ?_
  refine a_isub (v := ((nI k) - (nI k2))) F (rfl) dX4_isAheadOf_8 ?_
  refine lv_istore_n (lv' := [(2, .int ((nI k) - (nI k2))), (0, .ref h), (1, .ref h2)]) F.x F.cd dX4_isAheadOf_9 rfl hl (by decide) rfl (fun ls hl => ?_)
  refine s_getsN F hW (v := .ref (gA g 3)) (List.mem_of_getElem? (i := 4) rfl) q1563 (fun _ h9 => h9) dX4_isAheadOf_10 ?_
  refine lv_aload_n F.x F.cd dX4_isAheadOf_13 rfl (lv_at hl 2 rfl) ?_
  refine s_get F hW (ci := 8) (C := RX4) (T := TX4) (N := 3) (v := .int (nI i2)) (e2) rfl in_X4 2 (by decide) q953 (fun _ h9 => h9) rfl dX4_isAheadOf_14 ?_
  refine n_iald (i := i2) (n := 256) (f := (fun j => nI (pops j))) (x := (nI (pops i2))) F hW (hW.1.old F.cs F.cs.2.2.2.2.1) (by omega) (by omega) (rfl) dX4_isAheadOf_17 ?_
  refine s_getsN F hW (v := .ref (gA g 3)) (List.mem_of_getElem? (i := 4) rfl) q1563 (fun _ h9 => h9) dX4_isAheadOf_18 ?_
  refine lv_aload_n F.x F.cd dX4_isAheadOf_21 rfl (lv_at hl 1 rfl) ?_
  refine s_get F hW (ci := 8) (C := RX4) (T := TX4) (N := 3) (v := .int (nI i)) (e0) rfl in_X4 2 (by decide) q953 (fun _ h9 => h9) rfl dX4_isAheadOf_22 ?_
  refine n_iald (i := i) (n := 256) (f := (fun j => nI (pops j))) (x := (nI (pops i))) F hW (hW.1.old F.cs F.cs.2.2.2.2.1) (by omega) (by omega) (rfl) dX4_isAheadOf_25 ?_
  refine a_isub (v := ((nI (pops i2)) - (nI (pops i)))) F (rfl) dX4_isAheadOf_26 ?_
  refine lv_istore_n (lv' := [(3, .int ((nI (pops i2)) - (nI (pops i)))), (2, .int ((nI k) - (nI k2))), (0, .ref h), (1, .ref h2)]) F.x F.cd dX4_isAheadOf_27 rfl hl (by decide) rfl (fun ls hl => ?_)
  refine lv_iload_n F.x F.cd dX4_isAheadOf_28 rfl (lv_at hl 1 rfl) ?_
  refine lv_if_gt (x := ((nI k) - (nI k2))) (tgt := 40) F.x F.cd dX4_isAheadOf_29 (by decide) (fun c_29 => ?_) (fun c_29 => ?_)
  · refine lv_iconst (v := (nI 1)) F.x F.cd dX4_isAheadOf_40 (by decide) ?_
    refine lv_goto (tgt := 45) F.x F.cd dX4_isAheadOf_41 (by decide) ?_
    subst hQ
    exact s_reti (v := (nI 1)) F hW (by decide) (⟨by rw [show ahead k i k2 i2 = true by (simp only [nsub_pos hk hk2, nsub_eq0 hk hk2, nsub_le0 hk hk2, nsub_le0 hp2 hp1] at c_29; simp [ahead]; omega)]; rfl, rfl⟩) ⟨(Nat.le_of_ble_eq_true rfl), (Nat.le_of_ble_eq_true rfl)⟩ dX4_isAheadOf_45
  · refine lv_iload_n F.x F.cd dX4_isAheadOf_32 rfl (lv_at hl 1 rfl) ?_
    refine lv_if_ne (x := ((nI k) - (nI k2))) (tgt := 44) F.x F.cd dX4_isAheadOf_33 (by decide) (fun c_33 => ?_) (fun c_33 => ?_)
    · refine lv_iconst (v := (nI 0)) F.x F.cd dX4_isAheadOf_44 (by decide) ?_
      subst hQ
      exact s_reti (v := (nI 0)) F hW (by decide) (⟨by rw [show ahead k i k2 i2 = false by (simp only [nsub_pos hk hk2, nsub_eq0 hk hk2, nsub_le0 hk hk2, nsub_le0 hp2 hp1] at c_29 c_33; simp [ahead]; omega)]; rfl, rfl⟩) ⟨(Nat.le_of_ble_eq_true rfl), (Nat.le_of_ble_eq_true rfl)⟩ dX4_isAheadOf_45
    · refine lv_iload_n F.x F.cd dX4_isAheadOf_36 rfl (lv_at hl 0 rfl) ?_
      refine lv_if_le (x := ((nI (pops i2)) - (nI (pops i)))) (tgt := 44) F.x F.cd dX4_isAheadOf_37 (by decide) (fun c_37 => ?_) (fun c_37 => ?_)
      · refine lv_iconst (v := (nI 0)) F.x F.cd dX4_isAheadOf_44 (by decide) ?_
        subst hQ
        exact s_reti (v := (nI 0)) F hW (by decide) (⟨by rw [show ahead k i k2 i2 = false by (simp only [nsub_pos hk hk2, nsub_eq0 hk hk2, nsub_le0 hk hk2, nsub_le0 hp2 hp1] at c_29 c_33 c_37; simp [ahead]; omega)]; rfl, rfl⟩) ⟨(Nat.le_of_ble_eq_true rfl), (Nat.le_of_ble_eq_true rfl)⟩ dX4_isAheadOf_45
      · refine lv_iconst (v := (nI 1)) F.x F.cd dX4_isAheadOf_40 (by decide) ?_
        refine lv_goto (tgt := 45) F.x F.cd dX4_isAheadOf_41 (by decide) ?_
        subst hQ
        exact s_reti (v := (nI 1)) F hW (by decide) (⟨by rw [show ahead k i k2 i2 = true by (simp only [nsub_pos hk hk2, nsub_eq0 hk hk2, nsub_le0 hk hk2, nsub_le0 hp2 hp1] at c_29 c_33 c_37; simp [ahead]; omega)]; rfl, rfl⟩) ⟨(Nat.le_of_ble_eq_true rfl), (Nat.le_of_ble_eq_true rfl)⟩ dX4_isAheadOf_45
set_option maxHeartbeats 4000000 in
theorem k_X4_isTiedWith (g : Gh) (l : Launch) (σ : Sto) (h d k i h2 d2 k2 i2 : Nat) (e0 : σ h = some (oTank d k i)) (e2 : σ h2 = some (oTank d2 k2 i2)) (hk : k < 2 ^ 30) (hk2 : k2 < 2 ^ 30) (hi : i < 256) (hi2 : i2 < 256) : Ct g l yX4_isTiedWith cX4_isTiedWith 2 (some .boolean) ({ frames := 0, cells := 0, slots := 0, locals := 0 } : Room) [.ref h, .ref h2] σ (fun r σ' => r = some (.int (bI (tied k i k2 i2))) ∧ σ' = σ) (nox) := by
  refine Ct.body (by decide) (Nat.le_of_ble_eq_true rfl) ?_
  intro p_ e_ s_ m_ args_ below_ meth_ c_ ls H locs Q F hW hl hQ
  have hl : lv_has ls 2 [(0, .ref h), (1, .ref h2)] := hl
  have hp1 : pops i < 2 ^ 30 := Nat.lt_of_le_of_lt (pops_lt i hi) (by decide)
  have hp2 : pops i2 < 2 ^ 30 := Nat.lt_of_le_of_lt (pops_lt i2 hi2) (by decide)
  refine lv_aload_n F.x F.cd dX4_isTiedWith_0 rfl (lv_at hl 0 rfl) ?_
  refine s_get F hW (ci := 8) (C := RX4) (T := TX4) (N := 3) (v := .int (nI k)) (e0) rfl in_X4 1 (by decide) q950 (fun _ h9 => h9) rfl dX4_isTiedWith_1 ?_
  refine lv_aload_n F.x F.cd dX4_isTiedWith_4 rfl (lv_at hl 1 rfl) ?_
  refine s_get F hW (ci := 8) (C := RX4) (T := TX4) (N := 3) (v := .int (nI k2)) (e2) rfl in_X4 1 (by decide) q950 (fun _ h9 => h9) rfl dX4_isTiedWith_5 ?_
  refine n_icmp_ne (a := k) (b := k2) (tgt := 34) F (by omega) (by omega) dX4_isTiedWith_8 (by decide) (fun c_8 => ?_) (fun c_8 => ?_)
  · refine lv_iconst (v := (nI 0)) F.x F.cd dX4_isTiedWith_34 (by decide) ?_
    subst hQ
    exact s_reti (v := (nI 0)) F hW (by decide) (⟨by rw [show tied k i k2 i2 = false by (simp [tied]; omega)]; rfl, rfl⟩) ⟨(Nat.le_of_ble_eq_true rfl), (Nat.le_of_ble_eq_true rfl)⟩ dX4_isTiedWith_35
  · refine s_getsN F hW (v := .ref (gA g 3)) (List.mem_of_getElem? (i := 4) rfl) q1563 (fun _ h9 => h9) dX4_isTiedWith_11 ?_
    refine lv_aload_n F.x F.cd dX4_isTiedWith_14 rfl (lv_at hl 0 rfl) ?_
    refine s_get F hW (ci := 8) (C := RX4) (T := TX4) (N := 3) (v := .int (nI i)) (e0) rfl in_X4 2 (by decide) q953 (fun _ h9 => h9) rfl dX4_isTiedWith_15 ?_
    refine n_iald (i := i) (n := 256) (f := (fun j => nI (pops j))) (x := (nI (pops i))) F hW (hW.1.old F.cs F.cs.2.2.2.2.1) (by omega) (by omega) (rfl) dX4_isTiedWith_18 ?_
    refine s_getsN F hW (v := .ref (gA g 3)) (List.mem_of_getElem? (i := 4) rfl) q1563 (fun _ h9 => h9) dX4_isTiedWith_19 ?_
    refine lv_aload_n F.x F.cd dX4_isTiedWith_22 rfl (lv_at hl 1 rfl) ?_
    refine s_get F hW (ci := 8) (C := RX4) (T := TX4) (N := 3) (v := .int (nI i2)) (e2) rfl in_X4 2 (by decide) q953 (fun _ h9 => h9) rfl dX4_isTiedWith_23 ?_
    refine n_iald (i := i2) (n := 256) (f := (fun j => nI (pops j))) (x := (nI (pops i2))) F hW (hW.1.old F.cs F.cs.2.2.2.2.1) (by omega) (by omega) (rfl) dX4_isTiedWith_26 ?_
    refine n_icmp_ne (a := pops i) (b := pops i2) (tgt := 34) F (by omega) (by omega) dX4_isTiedWith_27 (by decide) (fun c_27 => ?_) (fun c_27 => ?_)
    · refine lv_iconst (v := (nI 0)) F.x F.cd dX4_isTiedWith_34 (by decide) ?_
      subst hQ
      exact s_reti (v := (nI 0)) F hW (by decide) (⟨by rw [show tied k i k2 i2 = false by (simp [tied]; omega)]; rfl, rfl⟩) ⟨(Nat.le_of_ble_eq_true rfl), (Nat.le_of_ble_eq_true rfl)⟩ dX4_isTiedWith_35
    · refine lv_iconst (v := (nI 1)) F.x F.cd dX4_isTiedWith_30 (by decide) ?_
      refine lv_goto (tgt := 35) F.x F.cd dX4_isTiedWith_31 (by decide) ?_
      subst hQ
      exact s_reti (v := (nI 1)) F hW (by decide) (⟨by rw [show tied k i k2 i2 = true by (simp [tied]; omega)]; rfl, rfl⟩) ⟨(Nat.le_of_ble_eq_true rfl), (Nat.le_of_ble_eq_true rfl)⟩ dX4_isTiedWith_35
set_option maxHeartbeats 4000000 in
theorem k_X4_mark (g : Gh) (l : Launch) (σ : Sto) (h d k i : Nat) (e0 : σ h = some (oTank d k i)) (hd : d < 2 ^ 31) (hk : k < 2 ^ 31) (hi : i < 2 ^ 31) : Ct g l yX4_mark cX4_mark 1 (some .long) ({ frames := 0, cells := 0, slots := 0, locals := 0 } : Room) [.ref h] σ (fun r σ' => r = some (.long (lN (k + 1000 * d + 1000000 * i))) ∧ σ' = σ) (nox) := by
  refine Ct.body (by decide) (Nat.le_of_ble_eq_true rfl) ?_
  intro p_ e_ s_ m_ args_ below_ meth_ c_ ls H locs Q F hW hl hQ
  have hl : lv_has ls 1 [(0, .ref h)] := hl
  refine lv_aload_n F.x F.cd dX4_mark_0 rfl (lv_at hl 0 rfl) ?_
  refine s_get F hW (ci := 8) (C := RX4) (T := TX4) (N := 3) (v := .int (nI k)) (e0) rfl in_X4 1 (by decide) q950 (fun _ h9 => h9) rfl dX4_mark_1 ?_
  refine lv_i2l (v := (lN k)) F.x F.cd dX4_mark_4 (nl_i2l (by omega)) ?_
  refine lv_ldc2 (v := (1000 : Int64)) F.x F.cd F.ow (F.ts _ q812) dX4_mark_5 ?_
  refine lv_aload_n F.x F.cd dX4_mark_8 rfl (lv_at hl 0 rfl) ?_
  refine s_get F hW (ci := 8) (C := RX4) (T := TX4) (N := 3) (v := .int (nI d)) (e0) rfl in_X4 0 (by decide) q948 (fun _ h9 => h9) rfl dX4_mark_9 ?_
  refine lv_i2l (v := (lN d)) F.x F.cd dX4_mark_12 (nl_i2l (by omega)) ?_
  refine a_lmul (v := (lN (1000 * d))) F (lN_mul 1000 d) dX4_mark_13 ?_
  refine a_ladd (v := (lN (k + 1000 * d))) F (lN_add _ _) dX4_mark_14 ?_
  refine lv_ldc2 (v := (1000000 : Int64)) F.x F.cd F.ow (F.ts _ q813) dX4_mark_15 ?_
  refine lv_aload_n F.x F.cd dX4_mark_18 rfl (lv_at hl 0 rfl) ?_
  refine s_get F hW (ci := 8) (C := RX4) (T := TX4) (N := 3) (v := .int (nI i)) (e0) rfl in_X4 2 (by decide) q953 (fun _ h9 => h9) rfl dX4_mark_19 ?_
  refine lv_i2l (v := (lN i)) F.x F.cd dX4_mark_22 (nl_i2l (by omega)) ?_
  refine a_lmul (v := (lN (1000000 * i))) F (lN_mul 1000000 i) dX4_mark_23 ?_
  refine a_ladd (v := (lN (k + 1000 * d + 1000000 * i))) F (lN_add _ _) dX4_mark_24 ?_
  subst hQ
  exact s_retl (v := (lN (k + 1000 * d + 1000000 * i))) F hW (⟨rfl, rfl⟩) ⟨(Nat.le_of_ble_eq_true rfl), (Nat.le_of_ble_eq_true rfl)⟩ dX4_mark_25
set_option maxHeartbeats 4000000 in
theorem k_X5_init (g : Gh) (l : Launch) (σ : Sto) (h a b n : Nat) (e0 : σ h = some (oPipe 0 0 0 0 0 0 0)) (b0 : gB g ≤ h) : Ct g l yX5_init cX5_init 4 none ({ frames := 1, cells := 0, slots := 0, locals := 24 } : Room) [.ref h, .int (nI a), .int (nI b), .int (nI n)] σ (fun r σ' => r = none ∧ σ' = sset σ h (oPipe a b n 0 0 0 0)) (nox) := by
  refine Ct.body (by decide) (Nat.le_of_ble_eq_true rfl) ?_
  intro p_ e_ s_ m_ args_ below_ meth_ c_ ls H locs Q F hW hl hQ
  have hl : lv_has ls 4 [(0, .ref h), (1, .int (nI a)), (2, .int (nI b)), (3, .int (nI n))] := hl
  refine lv_aload_n F.x F.cd dX5_init_0 rfl (lv_at hl 0 rfl) ?_
  refine W.objInit F.x F.cd F.ow (F.ts _ q1066) (F.ts _ q123) (F.ts _ q124) rfl (by rw [F.ml]; exact hl.1) rfl dX5_init_1 (Nat.le_of_ble_eq_true rfl) (Nat.le_of_ble_eq_true rfl) ?_
  refine W.eq (g2 := F0 m_ 4 ls ([])) rfl ?_
  refine lv_aload_n F.x F.cd dX5_init_4 rfl (lv_at hl 0 rfl) ?_
  refine lv_iload_n F.x F.cd dX5_init_5 rfl (lv_at hl 1 rfl) ?_
  refine s_putF F hW (ci := 9) (C := RX5) (T := TX5) (N := 7) (v := .int (nI a)) (ty := .int) (e0) (b0) rfl in_X5 tyX5_ok nmX5 0 (by decide) q1067 (fun _ h9 => h9) rfl rfl (by decide +kernel) rfl rfl (Nat.le_of_ble_eq_true rfl) dX5_init_6 (fun H locs hW => ?_)
  obtain ⟨σ2, hσ2⟩ : ∃ z, z = sset σ h (.inr (9, [.int (nI a), .int (nI 0), .int (nI 0), .int (nI 0), .int (nI 0), .int (nI 0), .int (nI 0)])) := ⟨_, rfl⟩
  have hW : Hl g σ2 H locs := by rw [hσ2]; exact hW
  have w2 : σ2 h = some (.inr (9, [.int (nI a), .int (nI 0), .int (nI 0), .int (nI 0), .int (nI 0), .int (nI 0), .int (nI 0)])) := by rw [hσ2]; exact sset_eq
  refine lv_aload_n F.x F.cd dX5_init_9 rfl (lv_at hl 0 rfl) ?_
  refine lv_iload_n F.x F.cd dX5_init_10 rfl (lv_at hl 2 rfl) ?_
  refine s_putF F hW (ci := 9) (C := RX5) (T := TX5) (N := 7) (v := .int (nI b)) (ty := .int) (w2) (b0) rfl in_X5 tyX5_ok nmX5 1 (by decide) q1071 (fun _ h9 => h9) rfl rfl (by decide +kernel) rfl rfl (Nat.le_of_ble_eq_true rfl) dX5_init_11 (fun H locs hW => ?_)
  obtain ⟨σ4, hσ4⟩ : ∃ z, z = sset σ2 h (.inr (9, [.int (nI a), .int (nI b), .int (nI 0), .int (nI 0), .int (nI 0), .int (nI 0), .int (nI 0)])) := ⟨_, rfl⟩
  have hW : Hl g σ4 H locs := by rw [hσ4]; exact hW
  have w4 : σ4 h = some (.inr (9, [.int (nI a), .int (nI b), .int (nI 0), .int (nI 0), .int (nI 0), .int (nI 0), .int (nI 0)])) := by rw [hσ4]; exact sset_eq
  refine lv_aload_n F.x F.cd dX5_init_14 rfl (lv_at hl 0 rfl) ?_
  refine lv_iload_n F.x F.cd dX5_init_15 rfl (lv_at hl 3 rfl) ?_
  refine s_putF F hW (ci := 9) (C := RX5) (T := TX5) (N := 7) (v := .int (nI n)) (ty := .int) (w4) (b0) rfl in_X5 tyX5_ok nmX5 2 (by decide) q1075 (fun _ h9 => h9) rfl rfl (by decide +kernel) rfl rfl (Nat.le_of_ble_eq_true rfl) dX5_init_16 (fun H locs hW => ?_)
  obtain ⟨σ6, hσ6⟩ : ∃ z, z = sset σ4 h (.inr (9, [.int (nI a), .int (nI b), .int (nI n), .int (nI 0), .int (nI 0), .int (nI 0), .int (nI 0)])) := ⟨_, rfl⟩
  have hW : Hl g σ6 H locs := by rw [hσ6]; exact hW
  have w6 : σ6 h = some (.inr (9, [.int (nI a), .int (nI b), .int (nI n), .int (nI 0), .int (nI 0), .int (nI 0), .int (nI 0)])) := by rw [hσ6]; exact sset_eq
  subst hQ
  exact s_retv F hW (⟨rfl, by rw [hσ6, hσ4, hσ2, sset_sset, sset_sset]⟩) ⟨(Nat.le_of_ble_eq_true rfl), (Nat.le_of_ble_eq_true rfl)⟩ dX5_init_19
set_option maxHeartbeats 4000000 in
theorem k_X5_copy (g : Gh) (l : Launch) (σ : Sto) (h a b n s r d t : Nat) (e0 : σ h = some (oPipe a b n s r d t)) : Ct g l yX5_copy cX5_copy 2 (some (.object "FilterWaterworks$Pipe")) ({ frames := 2, cells := 1, slots := 7, locals := 47 } : Room) [.ref h] σ (fun r' σ' => ∃ q, r' = some (.ref q) ∧ σ q = none ∧ gB g ≤ q ∧ σ' = sset σ q (oPipe a b n s r d t)) (nox) := by
  refine Ct.body (by decide) (Nat.le_of_ble_eq_true rfl) ?_
  intro p_ e_ s_ m_ args_ below_ meth_ c_ ls H locs Q F hW hl hQ
  have hl : lv_has ls 2 [(0, .ref h)] := hl
  refine s_new F hW 9 (C := RX5) (T := TX5) (N := 7) (fs := [.int (nI 0), .int (nI 0), .int (nI 0), .int (nI 0), .int (nI 0), .int (nI 0), .int (nI 0)]) rfl in_X5 tyX5_ok q1061 q1062 q96 (fun j hj => by rcases (show j = 0 ∨ j = 1 ∨ j = 2 ∨ j = 3 ∨ j = 4 ∨ j = 5 ∨ j = 6 by omega) with rfl | rfl | rfl | rfl | rfl | rfl | rfl <;> rfl) (Nat.le_of_ble_eq_true rfl) (Nat.le_of_ble_eq_true rfl) dX5_copy_0 (fun q1_ H hb_q1_ hn_q1_ hW => ?_)
  obtain ⟨σ2, hσ2⟩ : ∃ z, z = sset σ q1_ (.inr (9, [.int (nI 0), .int (nI 0), .int (nI 0), .int (nI 0), .int (nI 0), .int (nI 0), .int (nI 0)])) := ⟨_, rfl⟩
  have hW : Hl g σ2 H locs := by rw [hσ2]; exact hW
  have w2 : σ2 q1_ = some (.inr (9, [.int (nI 0), .int (nI 0), .int (nI 0), .int (nI 0), .int (nI 0), .int (nI 0), .int (nI 0)])) := by rw [hσ2]; exact sset_eq
  have f3 : σ2 h = some (.inr (9, [.int (nI a), .int (nI b), .int (nI n), .int (nI s), .int (nI r), .int (nI d), .int (nI t)])) := by rw [hσ2, sset_ne (sto_ne0 hn_q1_ e0)]; exact e0
  refine lv_dup F.x F.cd dX5_copy_3 rfl ?_
  refine lv_aload_n F.x F.cd dX5_copy_4 rfl (lv_at hl 0 rfl) ?_
  refine s_get F hW (ci := 9) (C := RX5) (T := TX5) (N := 7) (v := .int (nI a)) (f3) rfl in_X5 0 (by decide) q1067 (fun _ h9 => h9) rfl dX5_copy_5 ?_
  refine lv_aload_n F.x F.cd dX5_copy_8 rfl (lv_at hl 0 rfl) ?_
  refine s_get F hW (ci := 9) (C := RX5) (T := TX5) (N := 7) (v := .int (nI b)) (f3) rfl in_X5 1 (by decide) q1071 (fun _ h9 => h9) rfl dX5_copy_9 ?_
  refine lv_aload_n F.x F.cd dX5_copy_12 rfl (lv_at hl 0 rfl) ?_
  refine s_get F hW (ci := 9) (C := RX5) (T := TX5) (N := 7) (v := .int (nI n)) (f3) rfl in_X5 2 (by decide) q1075 (fun _ h9 => h9) rfl dX5_copy_13 ?_
  refine s_callI (As := [.int (nI a), .int (nI b), .int (nI n)]) (rest := [.ref q1_]) (n := 3) F hW (k_X5_init g l σ2 q1_ a b n (w2) (hb_q1_)) q1063 q1064 q96 q1065 rfl (by decide +kernel) rfl ⟨⟨Nat.le_of_ble_eq_true rfl, Nat.le_of_ble_eq_true rfl⟩, ⟨(Nat.le_of_ble_eq_true rfl), (Nat.le_of_ble_eq_true rfl)⟩⟩ (Nat.le_of_ble_eq_true rfl) hl.1 rfl dX5_copy_16 cX_no (fun r4 σ4 H locs hp4 hW => ?_)
  obtain ⟨rfl, rfl⟩ := hp4
  refine W.eq (g2 := F0 m_ 19 ls (.ref q1_ :: [])) rfl ?_
  obtain ⟨σ4, hσ4⟩ : ∃ z, z = sset σ2 q1_ (oPipe a b n 0 0 0 0) := ⟨_, rfl⟩
  rw [← hσ4] at hW
  have w5 : σ4 q1_ = some (.inr (9, [.int (nI a), .int (nI b), .int (nI n), .int (nI 0), .int (nI 0), .int (nI 0), .int (nI 0)])) := by rw [hσ4]; exact sset_eq
  have f6 : σ4 h = some (.inr (9, [.int (nI a), .int (nI b), .int (nI n), .int (nI s), .int (nI r), .int (nI d), .int (nI t)])) := by rw [hσ4, sset_ne (sto_ne0 hn_q1_ e0)]; exact f3
  refine lv_astore_n (lv' := [(1, .ref q1_), (0, .ref h)]) F.x F.cd dX5_copy_19 rfl hl (by decide) rfl (fun ls hl => ?_)
  refine lv_aload_n F.x F.cd dX5_copy_20 rfl (lv_at hl 0 rfl) ?_
  refine lv_aload_n F.x F.cd dX5_copy_21 rfl (lv_at hl 1 rfl) ?_
  refine s_get F hW (ci := 9) (C := RX5) (T := TX5) (N := 7) (v := .int (nI s)) (f6) rfl in_X5 3 (by decide) q1077 (fun _ h9 => h9) rfl dX5_copy_22 ?_
  refine s_put F hW (ci := 9) (C := RX5) (T := TX5) (N := 7) (v := .int (nI s)) (ty := .int) (w5) (hb_q1_) rfl in_X5 tyX5_ok nmX5 3 (by decide) q1077 (fun _ h9 => h9) rfl (by decide +kernel) rfl rfl (Nat.le_of_ble_eq_true rfl) dX5_copy_25 (fun H locs hW => ?_)
  obtain ⟨σ8, hσ8⟩ : ∃ z, z = sset σ4 q1_ (.inr (9, [.int (nI a), .int (nI b), .int (nI n), .int (nI s), .int (nI 0), .int (nI 0), .int (nI 0)])) := ⟨_, rfl⟩
  have hW : Hl g σ8 H locs := by rw [hσ8]; exact hW
  have w8 : σ8 q1_ = some (.inr (9, [.int (nI a), .int (nI b), .int (nI n), .int (nI s), .int (nI 0), .int (nI 0), .int (nI 0)])) := by rw [hσ8]; exact sset_eq
  have f9 : σ8 h = some (.inr (9, [.int (nI a), .int (nI b), .int (nI n), .int (nI s), .int (nI r), .int (nI d), .int (nI t)])) := by rw [hσ8, sset_ne (sto_ne0 hn_q1_ e0)]; exact f6
  refine lv_aload_n F.x F.cd dX5_copy_28 rfl (lv_at hl 0 rfl) ?_
  refine lv_aload_n F.x F.cd dX5_copy_29 rfl (lv_at hl 1 rfl) ?_
  refine s_get F hW (ci := 9) (C := RX5) (T := TX5) (N := 7) (v := .int (nI r)) (f9) rfl in_X5 4 (by decide) q1081 (fun _ h9 => h9) rfl dX5_copy_30 ?_
  refine s_put F hW (ci := 9) (C := RX5) (T := TX5) (N := 7) (v := .int (nI r)) (ty := .int) (w8) (hb_q1_) rfl in_X5 tyX5_ok nmX5 4 (by decide) q1081 (fun _ h9 => h9) rfl (by decide +kernel) rfl rfl (Nat.le_of_ble_eq_true rfl) dX5_copy_33 (fun H locs hW => ?_)
  obtain ⟨σ11, hσ11⟩ : ∃ z, z = sset σ8 q1_ (.inr (9, [.int (nI a), .int (nI b), .int (nI n), .int (nI s), .int (nI r), .int (nI 0), .int (nI 0)])) := ⟨_, rfl⟩
  have hW : Hl g σ11 H locs := by rw [hσ11]; exact hW
  have w11 : σ11 q1_ = some (.inr (9, [.int (nI a), .int (nI b), .int (nI n), .int (nI s), .int (nI r), .int (nI 0), .int (nI 0)])) := by rw [hσ11]; exact sset_eq
  have f12 : σ11 h = some (.inr (9, [.int (nI a), .int (nI b), .int (nI n), .int (nI s), .int (nI r), .int (nI d), .int (nI t)])) := by rw [hσ11, sset_ne (sto_ne0 hn_q1_ e0)]; exact f9
  refine lv_aload_n F.x F.cd dX5_copy_36 rfl (lv_at hl 0 rfl) ?_
  refine lv_aload_n F.x F.cd dX5_copy_37 rfl (lv_at hl 1 rfl) ?_
  refine s_get F hW (ci := 9) (C := RX5) (T := TX5) (N := 7) (v := .int (nI d)) (f12) rfl in_X5 5 (by decide) q1084 (fun _ h9 => h9) rfl dX5_copy_38 ?_
  refine s_put F hW (ci := 9) (C := RX5) (T := TX5) (N := 7) (v := .int (nI d)) (ty := .int) (w11) (hb_q1_) rfl in_X5 tyX5_ok nmX5 5 (by decide) q1084 (fun _ h9 => h9) rfl (by decide +kernel) rfl rfl (Nat.le_of_ble_eq_true rfl) dX5_copy_41 (fun H locs hW => ?_)
  obtain ⟨σ14, hσ14⟩ : ∃ z, z = sset σ11 q1_ (.inr (9, [.int (nI a), .int (nI b), .int (nI n), .int (nI s), .int (nI r), .int (nI d), .int (nI 0)])) := ⟨_, rfl⟩
  have hW : Hl g σ14 H locs := by rw [hσ14]; exact hW
  have w14 : σ14 q1_ = some (.inr (9, [.int (nI a), .int (nI b), .int (nI n), .int (nI s), .int (nI r), .int (nI d), .int (nI 0)])) := by rw [hσ14]; exact sset_eq
  have f15 : σ14 h = some (.inr (9, [.int (nI a), .int (nI b), .int (nI n), .int (nI s), .int (nI r), .int (nI d), .int (nI t)])) := by rw [hσ14, sset_ne (sto_ne0 hn_q1_ e0)]; exact f12
  refine lv_aload_n F.x F.cd dX5_copy_44 rfl (lv_at hl 0 rfl) ?_
  refine lv_aload_n F.x F.cd dX5_copy_45 rfl (lv_at hl 1 rfl) ?_
  refine s_get F hW (ci := 9) (C := RX5) (T := TX5) (N := 7) (v := .int (nI t)) (f15) rfl in_X5 6 (by decide) q1087 (fun _ h9 => h9) rfl dX5_copy_46 ?_
  refine s_put F hW (ci := 9) (C := RX5) (T := TX5) (N := 7) (v := .int (nI t)) (ty := .int) (w14) (hb_q1_) rfl in_X5 tyX5_ok nmX5 6 (by decide) q1087 (fun _ h9 => h9) rfl (by decide +kernel) rfl rfl (Nat.le_of_ble_eq_true rfl) dX5_copy_49 (fun H locs hW => ?_)
  obtain ⟨σ17, hσ17⟩ : ∃ z, z = sset σ14 q1_ (.inr (9, [.int (nI a), .int (nI b), .int (nI n), .int (nI s), .int (nI r), .int (nI d), .int (nI t)])) := ⟨_, rfl⟩
  have hW : Hl g σ17 H locs := by rw [hσ17]; exact hW
  have w17 : σ17 q1_ = some (.inr (9, [.int (nI a), .int (nI b), .int (nI n), .int (nI s), .int (nI r), .int (nI d), .int (nI t)])) := by rw [hσ17]; exact sset_eq
  have f18 : σ17 h = some (.inr (9, [.int (nI a), .int (nI b), .int (nI n), .int (nI s), .int (nI r), .int (nI d), .int (nI t)])) := by rw [hσ17, sset_ne (sto_ne0 hn_q1_ e0)]; exact f15
  refine lv_aload_n F.x F.cd dX5_copy_52 rfl (lv_at hl 0 rfl) ?_
  subst hQ
  exact s_reta F hW (Or.inl ⟨_, rfl⟩) (Or.inr ⟨_, rfl⟩) (⟨q1_, rfl, hn_q1_, hb_q1_, by rw [hσ17, hσ14, hσ11, hσ8, hσ4, hσ2, sset_sset, sset_sset, sset_sset, sset_sset, sset_sset]⟩) ⟨(Nat.le_of_ble_eq_true rfl), (Nat.le_of_ble_eq_true rfl)⟩ dX5_copy_53
set_option maxHeartbeats 4000000 in
theorem k_X5_isOpen (g : Gh) (l : Launch) (σ : Sto) (h a b n s r d t : Nat) (e0 : σ h = some (oPipe a b n s r d t)) (hs : s < 2 ^ 31) (hd : d < 2 ^ 31) : Ct g l yX5_isOpen cX5_isOpen 1 (some .boolean) ({ frames := 0, cells := 0, slots := 0, locals := 0 } : Room) [.ref h] σ (fun r' σ' => r' = some (.int (bI (opn s d))) ∧ σ' = σ) (nox) := by
  refine Ct.body (by decide) (Nat.le_of_ble_eq_true rfl) ?_
  intro p_ e_ s_ m_ args_ below_ meth_ c_ ls H locs Q F hW hl hQ
  have hl : lv_has ls 1 [(0, .ref h)] := hl
  refine lv_aload_n F.x F.cd dX5_isOpen_0 rfl (lv_at hl 0 rfl) ?_
  refine s_get F hW (ci := 9) (C := RX5) (T := TX5) (N := 7) (v := .int (nI s)) (e0) rfl in_X5 3 (by decide) q1077 (fun _ h9 => h9) rfl dX5_isOpen_1 ?_
  refine n_if_le (a := s) (tgt := 20) F (by omega) dX5_isOpen_4 (by decide) (fun c_4 => ?_) (fun c_4 => ?_)
  · refine lv_iconst (v := (nI 0)) F.x F.cd dX5_isOpen_20 (by decide) ?_
    subst hQ
    exact s_reti (v := (nI 0)) F hW (by decide) (⟨by rw [show opn s d = false by (simp [opn]; omega)]; rfl, rfl⟩) ⟨(Nat.le_of_ble_eq_true rfl), (Nat.le_of_ble_eq_true rfl)⟩ dX5_isOpen_21
  · refine lv_aload_n F.x F.cd dX5_isOpen_7 rfl (lv_at hl 0 rfl) ?_
    refine s_get F hW (ci := 9) (C := RX5) (T := TX5) (N := 7) (v := .int (nI d)) (e0) rfl in_X5 5 (by decide) q1084 (fun _ h9 => h9) rfl dX5_isOpen_8 ?_
    refine lv_bipush (v := (nI 20)) F.x F.cd dX5_isOpen_11 (by decide) ?_
    refine n_icmp_ge (a := d) (b := 20) (tgt := 20) F (by omega) (by omega) dX5_isOpen_13 (by decide) (fun c_13 => ?_) (fun c_13 => ?_)
    · refine lv_iconst (v := (nI 0)) F.x F.cd dX5_isOpen_20 (by decide) ?_
      subst hQ
      exact s_reti (v := (nI 0)) F hW (by decide) (⟨by rw [show opn s d = false by (simp [opn]; omega)]; rfl, rfl⟩) ⟨(Nat.le_of_ble_eq_true rfl), (Nat.le_of_ble_eq_true rfl)⟩ dX5_isOpen_21
    · refine lv_iconst (v := (nI 1)) F.x F.cd dX5_isOpen_16 (by decide) ?_
      refine lv_goto (tgt := 21) F.x F.cd dX5_isOpen_17 (by decide) ?_
      subst hQ
      exact s_reti (v := (nI 1)) F hW (by decide) (⟨by rw [show opn s d = true by (simp [opn]; omega)]; rfl, rfl⟩) ⟨(Nat.le_of_ble_eq_true rfl), (Nat.le_of_ble_eq_true rfl)⟩ dX5_isOpen_21
set_option maxHeartbeats 4000000 in
theorem k_X5_touches (g : Gh) (l : Launch) (σ : Sto) (h a b n s r d t : Nat) (k : Nat) (e0 : σ h = some (oPipe a b n s r d t)) (ha : a < 2 ^ 31) (hb : b < 2 ^ 31) (hk : k < 2 ^ 31) : Ct g l yX5_touches cX5_touches 2 (some .boolean) ({ frames := 0, cells := 0, slots := 0, locals := 0 } : Room) [.ref h, .int (nI k)] σ (fun r' σ' => r' = some (.int (bI (tch a b k))) ∧ σ' = σ) (nox) := by
  refine Ct.body (by decide) (Nat.le_of_ble_eq_true rfl) ?_
  intro p_ e_ s_ m_ args_ below_ meth_ c_ ls H locs Q F hW hl hQ
  have hl : lv_has ls 2 [(0, .ref h), (1, .int (nI k))] := hl
  refine lv_aload_n F.x F.cd dX5_touches_0 rfl (lv_at hl 0 rfl) ?_
  refine s_get F hW (ci := 9) (C := RX5) (T := TX5) (N := 7) (v := .int (nI a)) (e0) rfl in_X5 0 (by decide) q1067 (fun _ h9 => h9) rfl dX5_touches_1 ?_
  refine lv_iload_n F.x F.cd dX5_touches_4 rfl (lv_at hl 1 rfl) ?_
  refine n_icmp_eq (a := a) (b := k) (tgt := 16) F (by omega) (by omega) dX5_touches_5 (by decide) (fun c_5 => ?_) (fun c_5 => ?_)
  · refine lv_iconst (v := (nI 1)) F.x F.cd dX5_touches_16 (by decide) ?_
    refine lv_goto (tgt := 21) F.x F.cd dX5_touches_17 (by decide) ?_
    subst hQ
    exact s_reti (v := (nI 1)) F hW (by decide) (⟨by rw [show tch a b k = true by (simp [tch]; omega)]; rfl, rfl⟩) ⟨(Nat.le_of_ble_eq_true rfl), (Nat.le_of_ble_eq_true rfl)⟩ dX5_touches_21
  · refine lv_aload_n F.x F.cd dX5_touches_8 rfl (lv_at hl 0 rfl) ?_
    refine s_get F hW (ci := 9) (C := RX5) (T := TX5) (N := 7) (v := .int (nI b)) (e0) rfl in_X5 1 (by decide) q1071 (fun _ h9 => h9) rfl dX5_touches_9 ?_
    refine lv_iload_n F.x F.cd dX5_touches_12 rfl (lv_at hl 1 rfl) ?_
    refine n_icmp_ne (a := b) (b := k) (tgt := 20) F (by omega) (by omega) dX5_touches_13 (by decide) (fun c_13 => ?_) (fun c_13 => ?_)
    · refine lv_iconst (v := (nI 0)) F.x F.cd dX5_touches_20 (by decide) ?_
      subst hQ
      exact s_reti (v := (nI 0)) F hW (by decide) (⟨by rw [show tch a b k = false by (simp [tch]; omega)]; rfl, rfl⟩) ⟨(Nat.le_of_ble_eq_true rfl), (Nat.le_of_ble_eq_true rfl)⟩ dX5_touches_21
    · refine lv_iconst (v := (nI 1)) F.x F.cd dX5_touches_16 (by decide) ?_
      refine lv_goto (tgt := 21) F.x F.cd dX5_touches_17 (by decide) ?_
      subst hQ
      exact s_reti (v := (nI 1)) F hW (by decide) (⟨by rw [show tch a b k = true by (simp [tch]; omega)]; rfl, rfl⟩) ⟨(Nat.le_of_ble_eq_true rfl), (Nat.le_of_ble_eq_true rfl)⟩ dX5_touches_21
set_option maxHeartbeats 4000000 in
theorem k_X5_otherEnd (g : Gh) (l : Launch) (σ : Sto) (h a b n s r d t : Nat) (k : Nat) (e0 : σ h = some (oPipe a b n s r d t)) (ha : a < 2 ^ 31) (hk : k < 2 ^ 31) : Ct g l yX5_otherEnd cX5_otherEnd 2 (some .int) ({ frames := 0, cells := 0, slots := 0, locals := 0 } : Room) [.ref h, .int (nI k)] σ (fun r' σ' => r' = some (.int (nI (oth a b k))) ∧ σ' = σ) (nox) := by
  refine Ct.body (by decide) (Nat.le_of_ble_eq_true rfl) ?_
  intro p_ e_ s_ m_ args_ below_ meth_ c_ ls H locs Q F hW hl hQ
  have hl : lv_has ls 2 [(0, .ref h), (1, .int (nI k))] := hl
  refine lv_aload_n F.x F.cd dX5_otherEnd_0 rfl (lv_at hl 0 rfl) ?_
  refine s_get F hW (ci := 9) (C := RX5) (T := TX5) (N := 7) (v := .int (nI a)) (e0) rfl in_X5 0 (by decide) q1067 (fun _ h9 => h9) rfl dX5_otherEnd_1 ?_
  refine lv_iload_n F.x F.cd dX5_otherEnd_4 rfl (lv_at hl 1 rfl) ?_
  refine n_icmp_ne (a := a) (b := k) (tgt := 15) F (by omega) (by omega) dX5_otherEnd_5 (by decide) (fun c_5 => ?_) (fun c_5 => ?_)
  · refine lv_aload_n F.x F.cd dX5_otherEnd_15 rfl (lv_at hl 0 rfl) ?_
    refine s_get F hW (ci := 9) (C := RX5) (T := TX5) (N := 7) (v := .int (nI a)) (e0) rfl in_X5 0 (by decide) q1067 (fun _ h9 => h9) rfl dX5_otherEnd_16 ?_
    subst hQ
    exact s_reti (v := (nI a)) F hW rfl (⟨by rw [show oth a b k = a by simp [oth]; omega], rfl⟩) ⟨(Nat.le_of_ble_eq_true rfl), (Nat.le_of_ble_eq_true rfl)⟩ dX5_otherEnd_19
  · refine lv_aload_n F.x F.cd dX5_otherEnd_8 rfl (lv_at hl 0 rfl) ?_
    refine s_get F hW (ci := 9) (C := RX5) (T := TX5) (N := 7) (v := .int (nI b)) (e0) rfl in_X5 1 (by decide) q1071 (fun _ h9 => h9) rfl dX5_otherEnd_9 ?_
    refine lv_goto (tgt := 19) F.x F.cd dX5_otherEnd_12 (by decide) ?_
    subst hQ
    exact s_reti (v := (nI b)) F hW rfl (⟨by rw [show oth a b k = b by simp [oth]; omega], rfl⟩) ⟨(Nat.le_of_ble_eq_true rfl), (Nat.le_of_ble_eq_true rfl)⟩ dX5_otherEnd_19
set_option maxHeartbeats 4000000 in
theorem k_X5_leadsFrom (g : Gh) (l : Launch) (σ : Sto) (h a b n s r d t : Nat) (k : Nat) (e0 : σ h = some (oPipe a b n s r d t)) (ha : a < 2 ^ 31) (hb : b < 2 ^ 31) (hs : s < 2 ^ 31) (hd : d < 2 ^ 31) (hk : k < 2 ^ 31) : Ct g l yX5_leadsFrom cX5_leadsFrom 2 (some .boolean) ({ frames := 1, cells := 0, slots := 0, locals := 21 } : Room) [.ref h, .int (nI k)] σ (fun r' σ' => r' = some (.int (bI (opn s d && tch a b k))) ∧ σ' = σ) (nox) := by
  refine Ct.body (by decide) (Nat.le_of_ble_eq_true rfl) ?_
  intro p_ e_ s_ m_ args_ below_ meth_ c_ ls H locs Q F hW hl hQ
  have hl : lv_has ls 2 [(0, .ref h), (1, .int (nI k))] := hl
  refine lv_aload_n F.x F.cd dX5_leadsFrom_0 rfl (lv_at hl 0 rfl) ?_
  refine s_callV (As := []) (rest := []) (C := RX5) (T := TX5) (N := 7) (n := 0) F hW (k_X5_isOpen g l σ h a b n s r d t (e0) (by omega) (by omega)) (e0) rfl q849 q672 q673 q96 q674 rfl (by decide +kernel) rfl ⟨⟨Nat.le_of_ble_eq_true rfl, Nat.le_of_ble_eq_true rfl⟩, ⟨(Nat.le_of_ble_eq_true rfl), (Nat.le_of_ble_eq_true rfl)⟩⟩ (Nat.le_of_ble_eq_true rfl) hl.1 rfl dX5_leadsFrom_1 cX_no (fun r1 σ1 H locs hp1 hW => ?_)
  obtain ⟨rfl, hs1⟩ := hp1
  rw [hs1] at hW
  refine W.eq (g2 := F0 m_ 4 ls (.int (bI (opn s d)) :: [])) rfl ?_
  refine b_if_eq (b := (opn s d)) (tgt := 19) F dX5_leadsFrom_4 (by decide) (fun c_4 => ?_) (fun c_4 => ?_)
  · refine lv_iconst (v := (nI 0)) F.x F.cd dX5_leadsFrom_19 (by decide) ?_
    subst hQ
    exact s_reti (v := (nI 0)) F hW (by decide) (⟨by rw [c_4]; rfl, rfl⟩) ⟨(Nat.le_of_ble_eq_true rfl), (Nat.le_of_ble_eq_true rfl)⟩ dX5_leadsFrom_20
  · refine lv_aload_n F.x F.cd dX5_leadsFrom_7 rfl (lv_at hl 0 rfl) ?_
    refine lv_iload_n F.x F.cd dX5_leadsFrom_8 rfl (lv_at hl 1 rfl) ?_
    refine s_callV (As := [.int (nI k)]) (rest := []) (C := RX5) (T := TX5) (N := 7) (n := 1) F hW (k_X5_touches g l σ h a b n s r d t k (e0) (by omega) (by omega) (by omega)) (e0) rfl q850 q676 q677 q96 q678 rfl (by decide +kernel) rfl ⟨⟨Nat.le_of_ble_eq_true rfl, Nat.le_of_ble_eq_true rfl⟩, ⟨(Nat.le_of_ble_eq_true rfl), (Nat.le_of_ble_eq_true rfl)⟩⟩ (Nat.le_of_ble_eq_true rfl) hl.1 rfl dX5_leadsFrom_9 cX_no (fun r2 σ2 H locs hp2 hW => ?_)
    obtain ⟨rfl, hs2⟩ := hp2
    rw [hs2] at hW
    refine W.eq (g2 := F0 m_ 12 ls (.int (bI (tch a b k)) :: [])) rfl ?_
    refine b_if_eq (b := (tch a b k)) (tgt := 19) F dX5_leadsFrom_12 (by decide) (fun c_12 => ?_) (fun c_12 => ?_)
    · refine lv_iconst (v := (nI 0)) F.x F.cd dX5_leadsFrom_19 (by decide) ?_
      subst hQ
      exact s_reti (v := (nI 0)) F hW (by decide) (⟨by rw [c_4, c_12]; rfl, rfl⟩) ⟨(Nat.le_of_ble_eq_true rfl), (Nat.le_of_ble_eq_true rfl)⟩ dX5_leadsFrom_20
    · refine lv_iconst (v := (nI 1)) F.x F.cd dX5_leadsFrom_15 (by decide) ?_
      refine lv_goto (tgt := 20) F.x F.cd dX5_leadsFrom_16 (by decide) ?_
      subst hQ
      exact s_reti (v := (nI 1)) F hW (by decide) (⟨by rw [c_4, c_12]; rfl, rfl⟩) ⟨(Nat.le_of_ble_eq_true rfl), (Nat.le_of_ble_eq_true rfl)⟩ dX5_leadsFrom_20
set_option maxHeartbeats 4000000 in
theorem k_X5_cleaned (g : Gh) (l : Launch) (σ : Sto) (h a b n s r d t : Nat) (x : Nat) (e0 : σ h = some (oPipe a b n s r d t)) (hx : x < 256) (hn : n < 256) : Ct g l yX5_cleaned cX5_cleaned 2 (some .int) ({ frames := 0, cells := 0, slots := 0, locals := 0 } : Room) [.ref h, .int (nI x)] σ (fun r' σ' => r' = some (.int (nI (clr x n))) ∧ σ' = σ) (nox) := by
  refine Ct.body (by decide) (Nat.le_of_ble_eq_true rfl) ?_
  intro p_ e_ s_ m_ args_ below_ meth_ c_ ls H locs Q F hW hl hQ
  have hl : lv_has ls 2 [(0, .ref h), (1, .int (nI x))] := hl
  refine lv_iload_n F.x F.cd dX5_cleaned_0 rfl (lv_at hl 1 rfl) ?_
  refine lv_aload_n F.x F.cd dX5_cleaned_1 rfl (lv_at hl 0 rfl) ?_
  refine s_get F hW (ci := 9) (C := RX5) (T := TX5) (N := 7) (v := .int (nI n)) (e0) rfl in_X5 2 (by decide) q1075 (fun _ h9 => h9) rfl dX5_cleaned_2 ?_
  refine lv_iconst (v := (-1 : Int32)) F.x F.cd dX5_cleaned_5 (by decide) ?_
  refine a_ixor (v := (nI n ^^^ (-1))) F (rfl) dX5_cleaned_6 ?_
  refine a_iand (v := (nI (clr x n))) F (nI_clr x hx n hn) dX5_cleaned_7 ?_
  subst hQ
  exact s_reti (v := (nI (clr x n))) F hW rfl (⟨rfl, rfl⟩) ⟨(Nat.le_of_ble_eq_true rfl), (Nat.le_of_ble_eq_true rfl)⟩ dX5_cleaned_8
set_option maxHeartbeats 4000000 in
theorem k_X5_soil (g : Gh) (l : Launch) (σ : Sto) (h a b n s r d t : Nat) (x : Nat) (e0 : σ h = some (oPipe a b n s r d t)) (b0 : gB g ≤ h) (hx : x < 256) (hd : d ≤ 20) : Ct g l yX5_soil cX5_soil 2 none ({ frames := 1, cells := 0, slots := 0, locals := 24 } : Room) [.ref h, .int (nI x)] σ (fun r' σ' => r' = none ∧ σ' = sset σ h (oPipe a b n s r (min 20 (d + pops (x &&& n))) t)) (nox) := by
  refine Ct.body (by decide) (Nat.le_of_ble_eq_true rfl) ?_
  intro p_ e_ s_ m_ args_ below_ meth_ c_ ls H locs Q F hW hl hQ
  have hl : lv_has ls 2 [(0, .ref h), (1, .int (nI x))] := hl
  have hpx : pops (x &&& n) ≤ 8 := pops_lt _ (Nat.lt_of_le_of_lt Nat.and_le_left hx)
  refine lv_aload_n F.x F.cd dX5_soil_0 rfl (lv_at hl 0 rfl) ?_
  refine lv_bipush (v := (nI 20)) F.x F.cd dX5_soil_1 (by decide) ?_
  refine lv_aload_n F.x F.cd dX5_soil_3 rfl (lv_at hl 0 rfl) ?_
  refine s_get F hW (ci := 9) (C := RX5) (T := TX5) (N := 7) (v := .int (nI d)) (e0) rfl in_X5 5 (by decide) q1084 (fun _ h9 => h9) rfl dX5_soil_4 ?_
  refine s_getsN F hW (v := .ref (gA g 3)) (List.mem_of_getElem? (i := 4) rfl) q1327 (fun _ h9 => h9) dX5_soil_7 ?_
  refine lv_iload_n F.x F.cd dX5_soil_10 rfl (lv_at hl 1 rfl) ?_
  refine lv_aload_n F.x F.cd dX5_soil_11 rfl (lv_at hl 0 rfl) ?_
  refine s_get F hW (ci := 9) (C := RX5) (T := TX5) (N := 7) (v := .int (nI n)) (e0) rfl in_X5 2 (by decide) q1075 (fun _ h9 => h9) rfl dX5_soil_12 ?_
  refine a_iand (v := (nI (x &&& n))) F (nI_and _ _) dX5_soil_15 ?_
  refine n_iald (i := x &&& n) (n := 256) (f := (fun j => nI (pops j))) (x := (nI (pops (x &&& n)))) F hW (hW.1.old F.cs F.cs.2.2.2.2.1) (Nat.lt_of_le_of_lt Nat.and_le_left hx) (by omega) (rfl) dX5_soil_16 ?_
  refine a_iadd (v := (nI (d + (pops (x &&& n))))) F (nI_add _ _) dX5_soil_17 ?_
  refine s_mmin (v := (nI (min 20 (d + (pops (x &&& n)))))) F q1328 q453 q87 q454 hl.1 (Nat.le_of_ble_eq_true rfl) (Nat.le_of_ble_eq_true rfl) (Nat.le_of_ble_eq_true rfl) (Nat.le_of_ble_eq_true rfl) (nI_min (by omega) (by omega)) dX5_soil_18 ?_
  refine s_put F hW (ci := 9) (C := RX5) (T := TX5) (N := 7) (v := .int (nI (min 20 (d + (pops (x &&& n)))))) (ty := .int) (e0) (b0) rfl in_X5 tyX5_ok nmX5 5 (by decide) q1084 (fun _ h9 => h9) rfl (by decide +kernel) rfl rfl (Nat.le_of_ble_eq_true rfl) dX5_soil_21 (fun H locs hW => ?_)
  obtain ⟨σ2, hσ2⟩ : ∃ z, z = sset σ h (.inr (9, [.int (nI a), .int (nI b), .int (nI n), .int (nI s), .int (nI r), .int (nI (min 20 (d + (pops (x &&& n))))), .int (nI t)])) := ⟨_, rfl⟩
  have hW : Hl g σ2 H locs := by rw [hσ2]; exact hW
  have w2 : σ2 h = some (.inr (9, [.int (nI a), .int (nI b), .int (nI n), .int (nI s), .int (nI r), .int (nI (min 20 (d + (pops (x &&& n))))), .int (nI t)])) := by rw [hσ2]; exact sset_eq
  subst hQ
  exact s_retv F hW (⟨rfl, hσ2⟩) ⟨(Nat.le_of_ble_eq_true rfl), (Nat.le_of_ble_eq_true rfl)⟩ dX5_soil_24
set_option maxHeartbeats 4000000 in
theorem k_X5_mark (g : Gh) (l : Launch) (σ : Sto) (h a b n s r d t : Nat) (e0 : σ h = some (oPipe a b n s r d t)) (hs : s < 2 ^ 31) (hd : d < 2 ^ 31) (hr : r < 2 ^ 31) (hn : n < 2 ^ 31) : Ct g l yX5_mark cX5_mark 1 (some .long) ({ frames := 0, cells := 0, slots := 0, locals := 0 } : Room) [.ref h] σ (fun r' σ' => r' = some (.long (lN (s + 5 * d + 1000 * r + 10000 * n))) ∧ σ' = σ) (nox) := by
  refine Ct.body (by decide) (Nat.le_of_ble_eq_true rfl) ?_
  intro p_ e_ s_ m_ args_ below_ meth_ c_ ls H locs Q F hW hl hQ
  have hl : lv_has ls 1 [(0, .ref h)] := hl
  refine lv_aload_n F.x F.cd dX5_mark_0 rfl (lv_at hl 0 rfl) ?_
  refine s_get F hW (ci := 9) (C := RX5) (T := TX5) (N := 7) (v := .int (nI s)) (e0) rfl in_X5 3 (by decide) q1077 (fun _ h9 => h9) rfl dX5_mark_1 ?_
  refine lv_i2l (v := (lN s)) F.x F.cd dX5_mark_4 (nl_i2l (by omega)) ?_
  refine lv_ldc2 (v := (5 : Int64)) F.x F.cd F.ow (F.ts _ q818) dX5_mark_5 ?_
  refine lv_aload_n F.x F.cd dX5_mark_8 rfl (lv_at hl 0 rfl) ?_
  refine s_get F hW (ci := 9) (C := RX5) (T := TX5) (N := 7) (v := .int (nI d)) (e0) rfl in_X5 5 (by decide) q1084 (fun _ h9 => h9) rfl dX5_mark_9 ?_
  refine lv_i2l (v := (lN d)) F.x F.cd dX5_mark_12 (nl_i2l (by omega)) ?_
  refine a_lmul (v := (lN (5 * d))) F (lN_mul 5 d) dX5_mark_13 ?_
  refine a_ladd (v := (lN (s + 5 * d))) F (lN_add _ _) dX5_mark_14 ?_
  refine lv_ldc2 (v := (1000 : Int64)) F.x F.cd F.ow (F.ts _ q819) dX5_mark_15 ?_
  refine lv_aload_n F.x F.cd dX5_mark_18 rfl (lv_at hl 0 rfl) ?_
  refine s_get F hW (ci := 9) (C := RX5) (T := TX5) (N := 7) (v := .int (nI r)) (e0) rfl in_X5 4 (by decide) q1081 (fun _ h9 => h9) rfl dX5_mark_19 ?_
  refine lv_i2l (v := (lN r)) F.x F.cd dX5_mark_22 (nl_i2l (by omega)) ?_
  refine a_lmul (v := (lN (1000 * r))) F (lN_mul 1000 r) dX5_mark_23 ?_
  refine a_ladd (v := (lN (s + 5 * d + 1000 * r))) F (lN_add _ _) dX5_mark_24 ?_
  refine lv_ldc2 (v := (10000 : Int64)) F.x F.cd F.ow (F.ts _ q820) dX5_mark_25 ?_
  refine lv_aload_n F.x F.cd dX5_mark_28 rfl (lv_at hl 0 rfl) ?_
  refine s_get F hW (ci := 9) (C := RX5) (T := TX5) (N := 7) (v := .int (nI n)) (e0) rfl in_X5 2 (by decide) q1075 (fun _ h9 => h9) rfl dX5_mark_29 ?_
  refine lv_i2l (v := (lN n)) F.x F.cd dX5_mark_32 (nl_i2l (by omega)) ?_
  refine a_lmul (v := (lN (10000 * n))) F (lN_mul 10000 n) dX5_mark_33 ?_
  refine a_ladd (v := (lN (s + 5 * d + 1000 * r + 10000 * n))) F (lN_add _ _) dX5_mark_34 ?_
  subst hQ
  exact s_retl (v := (lN (s + 5 * d + 1000 * r + 10000 * n))) F hW (⟨rfl, rfl⟩) ⟨(Nat.le_of_ble_eq_true rfl), (Nat.le_of_ble_eq_true rfl)⟩ dX5_mark_35
