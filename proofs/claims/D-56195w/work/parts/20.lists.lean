set_option maxHeartbeats 4000000 in
theorem k_J0_init (g : Gh) (l : Launch) (σ : Sto) (h : Nat)  : Ct g l yJ0_init cJ0_init 1 none ({ frames := 1, cells := 0, slots := 0, locals := 24 } : Room) [.ref h] σ (fun r σ' => r = none ∧ σ' = σ) (nox) := by
  refine Ct.body (by decide) (Nat.le_of_ble_eq_true rfl) ?_
  intro p_ e_ s_ m_ args_ below_ meth_ c_ ls H locs Q F hW hl hQ
  have hl : lv_has ls 1 [(0, .ref h)] := hl
  refine lv_aload_n F.x F.cd dJ0_init_0 rfl (lv_at hl 0 rfl) ?_
  refine W.objInit F.x F.cd F.ow (F.ts _ q142) (F.ts _ q123) (F.ts _ q124) rfl (by rw [F.ml]; exact hl.1) rfl dJ0_init_1 (Nat.le_of_ble_eq_true rfl) (Nat.le_of_ble_eq_true rfl) ?_
  refine W.eq (g2 := F0 m_ 4 ls ([])) rfl ?_
  subst hQ
  exact s_retv F hW (⟨rfl, rfl⟩) ⟨(Nat.le_of_ble_eq_true rfl), (Nat.le_of_ble_eq_true rfl)⟩ dJ0_init_4
set_option maxHeartbeats 4000000 in
theorem k_J1_init_A (g : Gh) (l : Launch) (σ : Sto) (h : Nat) (e0 : σ h = some (.inr (2, [.int (nI 0), .null, .int (nI 0)]))) (b0 : gB g ≤ h) : Ct g l yJ1_init cJ1_init 1 none ({ frames := 2, cells := 0, slots := 0, locals := 44 } : Room) [.ref h] σ (fun r σ' => r = none ∧ σ' = σ) (nox) := by
  refine Ct.body (by decide) (Nat.le_of_ble_eq_true rfl) ?_
  intro p_ e_ s_ m_ args_ below_ meth_ c_ ls H locs Q F hW hl hQ
  have hl : lv_has ls 1 [(0, .ref h)] := hl
  refine lv_aload_n F.x F.cd dJ1_init_0 rfl (lv_at hl 0 rfl) ?_
  refine s_callI (As := []) (rest := []) (n := 0) F hW (k_J0_init g l σ h) q139 q140 q70 q141 rfl (by decide +kernel) rfl ⟨⟨Nat.le_of_ble_eq_true rfl, Nat.le_of_ble_eq_true rfl⟩, ⟨(Nat.le_of_ble_eq_true rfl), (Nat.le_of_ble_eq_true rfl)⟩⟩ (Nat.le_of_ble_eq_true rfl) hl.1 rfl dJ1_init_1 cX_no (fun r1 σ1 H locs hp1 hW => ?_)
  obtain ⟨rfl, hs1⟩ := hp1
  rw [hs1] at hW
  refine W.eq (g2 := F0 m_ 4 ls ([])) rfl ?_
  refine lv_aload_n F.x F.cd dJ1_init_4 rfl (lv_at hl 0 rfl) ?_
  refine lv_iconst (v := (nI 0)) F.x F.cd dJ1_init_5 (by decide) ?_
  refine s_put F hW (ci := 2) (C := RJ2) (T := TJ2) (N := 3) (v := .int (nI 0)) (ty := .int) (e0) (b0) rfl in_J2 tyJ2_ok nmJ2 0 (by decide) q147 (fun _ h9 => h9) rfl (by decide +kernel) rfl rfl (Nat.le_of_ble_eq_true rfl) dJ1_init_6 (fun H locs hW => ?_)
  obtain ⟨σ3, hσ3⟩ : ∃ z, z = sset σ h (.inr (2, [.int (nI 0), .null, .int (nI 0)])) := ⟨_, rfl⟩
  have hW : Hl g σ3 H locs := by rw [hσ3]; exact hW
  have w3 : σ3 h = some (.inr (2, [.int (nI 0), .null, .int (nI 0)])) := by rw [hσ3]; exact sset_eq
  subst hQ
  exact s_retv F hW (⟨rfl, by rw [hσ3]; exact sset_id e0⟩) ⟨(Nat.le_of_ble_eq_true rfl), (Nat.le_of_ble_eq_true rfl)⟩ dJ1_init_9
set_option maxHeartbeats 4000000 in
theorem k_J1_init_L (g : Gh) (l : Launch) (σ : Sto) (h : Nat) (e0 : σ h = some (.inr (3, [.int (nI 0), .int (nI 0), .null, .null]))) (b0 : gB g ≤ h) : Ct g l yJ1_init cJ1_init 1 none ({ frames := 2, cells := 0, slots := 0, locals := 44 } : Room) [.ref h] σ (fun r σ' => r = none ∧ σ' = σ) (nox) := by
  refine Ct.body (by decide) (Nat.le_of_ble_eq_true rfl) ?_
  intro p_ e_ s_ m_ args_ below_ meth_ c_ ls H locs Q F hW hl hQ
  have hl : lv_has ls 1 [(0, .ref h)] := hl
  refine lv_aload_n F.x F.cd dJ1_init_0 rfl (lv_at hl 0 rfl) ?_
  refine s_callI (As := []) (rest := []) (n := 0) F hW (k_J0_init g l σ h) q139 q140 q70 q141 rfl (by decide +kernel) rfl ⟨⟨Nat.le_of_ble_eq_true rfl, Nat.le_of_ble_eq_true rfl⟩, ⟨(Nat.le_of_ble_eq_true rfl), (Nat.le_of_ble_eq_true rfl)⟩⟩ (Nat.le_of_ble_eq_true rfl) hl.1 rfl dJ1_init_1 cX_no (fun r1 σ1 H locs hp1 hW => ?_)
  obtain ⟨rfl, hs1⟩ := hp1
  rw [hs1] at hW
  refine W.eq (g2 := F0 m_ 4 ls ([])) rfl ?_
  refine lv_aload_n F.x F.cd dJ1_init_4 rfl (lv_at hl 0 rfl) ?_
  refine lv_iconst (v := (nI 0)) F.x F.cd dJ1_init_5 (by decide) ?_
  refine s_put F hW (ci := 3) (C := RJ4) (T := TJ4) (N := 4) (v := .int (nI 0)) (ty := .int) (e0) (b0) rfl in_J4 tyJ4_ok nmJ4 0 (by decide) q147 (fun _ h9 => h9) rfl (by decide +kernel) rfl rfl (Nat.le_of_ble_eq_true rfl) dJ1_init_6 (fun H locs hW => ?_)
  obtain ⟨σ3, hσ3⟩ : ∃ z, z = sset σ h (.inr (3, [.int (nI 0), .int (nI 0), .null, .null])) := ⟨_, rfl⟩
  have hW : Hl g σ3 H locs := by rw [hσ3]; exact hW
  have w3 : σ3 h = some (.inr (3, [.int (nI 0), .int (nI 0), .null, .null])) := by rw [hσ3]; exact sset_eq
  subst hQ
  exact s_retv F hW (⟨rfl, by rw [hσ3]; exact sset_id e0⟩) ⟨(Nat.le_of_ble_eq_true rfl), (Nat.le_of_ble_eq_true rfl)⟩ dJ1_init_9
set_option maxHeartbeats 4000000 in
theorem k_J2_init (g : Gh) (l : Launch) (σ : Sto) (h : Nat) (e0 : σ h = some (.inr (2, [.int (nI 0), .null, .int (nI 0)]))) (b0 : gB g ≤ h) : Ct g l yJ2_init cJ2_init 1 none ({ frames := 3, cells := 0, slots := 0, locals := 64 } : Room) [.ref h] σ (fun r σ' => r = none ∧ σ' = sset σ h (.inr (2, [.int (nI 0), .ref (gA g 0), .int (nI 0)]))) (nox) := by
  refine Ct.body (by decide) (Nat.le_of_ble_eq_true rfl) ?_
  intro p_ e_ s_ m_ args_ below_ meth_ c_ ls H locs Q F hW hl hQ
  have hl : lv_has ls 1 [(0, .ref h)] := hl
  refine lv_aload_n F.x F.cd dJ2_init_0 rfl (lv_at hl 0 rfl) ?_
  refine s_callI (As := []) (rest := []) (n := 0) F hW (k_J1_init_A g l σ h (e0) (b0)) q136 q137 q71 q138 rfl (by decide +kernel) rfl ⟨⟨Nat.le_of_ble_eq_true rfl, Nat.le_of_ble_eq_true rfl⟩, ⟨(Nat.le_of_ble_eq_true rfl), (Nat.le_of_ble_eq_true rfl)⟩⟩ (Nat.le_of_ble_eq_true rfl) hl.1 rfl dJ2_init_1 cX_no (fun r1 σ1 H locs hp1 hW => ?_)
  obtain ⟨rfl, hs1⟩ := hp1
  rw [hs1] at hW
  refine W.eq (g2 := F0 m_ 4 ls ([])) rfl ?_
  refine lv_aload_n F.x F.cd dJ2_init_4 rfl (lv_at hl 0 rfl) ?_
  refine s_gets F hW (v := .ref (gA g 0)) (List.mem_of_getElem? (i := 0) rfl) q143 (fun _ h9 => h9) dJ2_init_5 ?_
  refine s_put F hW (ci := 2) (C := RJ2) (T := TJ2) (N := 3) (v := .ref (gA g 0)) (ty := (.array (.object "java/lang/Object"))) (e0) (b0) rfl in_J2 tyJ2_ok nmJ2 1 (by decide) q145 (fun _ h9 => h9) rfl (by decide +kernel) rfl rfl (Nat.le_of_ble_eq_true rfl) dJ2_init_8 (fun H locs hW => ?_)
  obtain ⟨σ3, hσ3⟩ : ∃ z, z = sset σ h (.inr (2, [.int (nI 0), .ref (gA g 0), .int (nI 0)])) := ⟨_, rfl⟩
  have hW : Hl g σ3 H locs := by rw [hσ3]; exact hW
  have w3 : σ3 h = some (.inr (2, [.int (nI 0), .ref (gA g 0), .int (nI 0)])) := by rw [hσ3]; exact sset_eq
  subst hQ
  exact s_retv F hW (⟨rfl, hσ3⟩) ⟨(Nat.le_of_ble_eq_true rfl), (Nat.le_of_ble_eq_true rfl)⟩ dJ2_init_11
set_option maxHeartbeats 4000000 in
theorem k_J10_checkIndex_N (g : Gh) (l : Launch) (σ : Sto) (i n : Nat)  (hi : i < n) (hn : n < 2 ^ 31) : Ct g l yJ10_checkIndex cJ10_checkIndex 3 (some .int) ({ frames := 0, cells := 0, slots := 0, locals := 0 } : Room) [.int (nI i), .int (nI n), .null] σ (fun r σ' => r = some (.int (nI i)) ∧ σ' = σ) (nox) := by
  refine Ct.body (by decide) (Nat.le_of_ble_eq_true rfl) ?_
  intro p_ e_ s_ m_ args_ below_ meth_ c_ ls H locs Q F hW hl hQ
  have hl : lv_has ls 3 [(0, .int (nI i)), (1, .int (nI n)), (2, .null)] := hl
  refine lv_iload_n F.x F.cd dJ10_checkIndex_0 rfl (lv_at hl 0 rfl) ?_
  refine n_if_lt (a := i) (tgt := 9) F (by omega) dJ10_checkIndex_1 (by decide) ?_
  refine lv_iload_n F.x F.cd dJ10_checkIndex_4 rfl (lv_at hl 0 rfl) ?_
  refine lv_iload_n F.x F.cd dJ10_checkIndex_5 rfl (lv_at hl 1 rfl) ?_
  refine n_icmp_lt (a := i) (b := n) (tgt := 16) F (by omega) (by omega) dJ10_checkIndex_6 (by decide) (fun c_6 => ?_) (fun c_6 => ?_)
  · refine lv_iload_n F.x F.cd dJ10_checkIndex_16 rfl (lv_at hl 0 rfl) ?_
    subst hQ
    exact s_reti (v := (nI i)) F hW rfl (⟨rfl, rfl⟩) ⟨(Nat.le_of_ble_eq_true rfl), (Nat.le_of_ble_eq_true rfl)⟩ dJ10_checkIndex_17
  · exact absurd hi c_6
set_option maxHeartbeats 4000000 in
theorem k_J10_checkIndex_R (g : Gh) (l : Launch) (σ : Sto) (i n : Nat) (o : Nat) (hi : i < n) (hn : n < 2 ^ 31) : Ct g l yJ10_checkIndex cJ10_checkIndex 3 (some .int) ({ frames := 0, cells := 0, slots := 0, locals := 0 } : Room) [.int (nI i), .int (nI n), .ref o] σ (fun r σ' => r = some (.int (nI i)) ∧ σ' = σ) (nox) := by
  refine Ct.body (by decide) (Nat.le_of_ble_eq_true rfl) ?_
  intro p_ e_ s_ m_ args_ below_ meth_ c_ ls H locs Q F hW hl hQ
  have hl : lv_has ls 3 [(0, .int (nI i)), (1, .int (nI n)), (2, .ref o)] := hl
  refine lv_iload_n F.x F.cd dJ10_checkIndex_0 rfl (lv_at hl 0 rfl) ?_
  refine n_if_lt (a := i) (tgt := 9) F (by omega) dJ10_checkIndex_1 (by decide) ?_
  refine lv_iload_n F.x F.cd dJ10_checkIndex_4 rfl (lv_at hl 0 rfl) ?_
  refine lv_iload_n F.x F.cd dJ10_checkIndex_5 rfl (lv_at hl 1 rfl) ?_
  refine n_icmp_lt (a := i) (b := n) (tgt := 16) F (by omega) (by omega) dJ10_checkIndex_6 (by decide) (fun c_6 => ?_) (fun c_6 => ?_)
  · refine lv_iload_n F.x F.cd dJ10_checkIndex_16 rfl (lv_at hl 0 rfl) ?_
    subst hQ
    exact s_reti (v := (nI i)) F hW rfl (⟨rfl, rfl⟩) ⟨(Nat.le_of_ble_eq_true rfl), (Nat.le_of_ble_eq_true rfl)⟩ dJ10_checkIndex_17
  · exact absurd hi c_6
set_option maxHeartbeats 4000000 in
theorem k_J9_checkIndex (g : Gh) (l : Launch) (σ : Sto) (i n : Nat) (hi : i < n) (hn : n < 2 ^ 31) : Ct g l yJ9_checkIndex cJ9_checkIndex 2 (some .int) ({ frames := 1, cells := 0, slots := 0, locals := 22 } : Room) [.int (nI i), .int (nI n)] σ (fun r σ' => r = some (.int (nI i)) ∧ σ' = σ) (nox) := by
  refine Ct.body (by decide) (Nat.le_of_ble_eq_true rfl) ?_
  intro p_ e_ s_ m_ args_ below_ meth_ c_ ls H locs Q F hW hl hQ
  have hl : lv_has ls 2 [(0, .int (nI i)), (1, .int (nI n))] := hl
  refine lv_iload_n F.x F.cd dJ9_checkIndex_0 rfl (lv_at hl 0 rfl) ?_
  refine lv_iload_n F.x F.cd dJ9_checkIndex_1 rfl (lv_at hl 1 rfl) ?_
  refine lv_null F.x F.cd dJ9_checkIndex_2 ?_
  refine s_callS (As := [.int (nI i), .int (nI n), .null]) (rest := []) (n := 3) F hW (k_J10_checkIndex_N g l σ i n (by omega) (by omega)) q336 q337 q81 q338 (by decide +kernel) rfl ⟨⟨Nat.le_of_ble_eq_true rfl, Nat.le_of_ble_eq_true rfl⟩, ⟨(Nat.le_of_ble_eq_true rfl), (Nat.le_of_ble_eq_true rfl)⟩⟩ (Nat.le_of_ble_eq_true rfl) hl.1 rfl dJ9_checkIndex_3 cX_no (fun r1 σ1 H locs hp1 hW => ?_)
  obtain ⟨rfl, hs1⟩ := hp1
  rw [hs1] at hW
  refine W.eq (g2 := F0 m_ 6 ls (.int (nI i) :: [])) rfl ?_
  subst hQ
  exact s_reti (v := (nI i)) F hW rfl (⟨rfl, rfl⟩) ⟨(Nat.le_of_ble_eq_true rfl), (Nat.le_of_ble_eq_true rfl)⟩ dJ9_checkIndex_6
set_option maxHeartbeats 4000000 in
theorem k_J2_size (g : Gh) (l : Launch) (σ : Sto) (h ea k : Nat) (ad : Nat → Nat) (hL : IsList g σ h ea k ad) : Ct g l yJ2_size cJ2_size 1 (some .int) ({ frames := 0, cells := 0, slots := 0, locals := 0 } : Room) [.ref h] σ (fun r σ' => r = some (.int (nI k)) ∧ σ' = σ) (nox) := by
  refine Ct.body (by decide) (Nat.le_of_ble_eq_true rfl) ?_
  intro p_ e_ s_ m_ args_ below_ meth_ c_ ls H locs Q F hW hl hQ
  have hl : lv_has ls 1 [(0, .ref h)] := hl
  obtain ⟨mc, n, f, e0, b0, e1, hn, hk, hn2, hf⟩ := hL
  have hn3 : k ≤ 90 := Nat.le_trans hk hn2
  refine lv_aload_n F.x F.cd dJ2_size_0 rfl (lv_at hl 0 rfl) ?_
  refine s_get F hW (ci := 2) (C := RJ2) (T := TJ2) (N := 3) (v := .int (nI k)) (e0) rfl in_J2 2 (by decide) q146 (fun _ h9 => h9) rfl dJ2_size_1 ?_
  subst hQ
  exact s_reti (v := (nI k)) F hW rfl (⟨rfl, rfl⟩) ⟨(Nat.le_of_ble_eq_true rfl), (Nat.le_of_ble_eq_true rfl)⟩ dJ2_size_4
set_option maxHeartbeats 4000000 in
theorem k_J2_elementData (g : Gh) (l : Launch) (σ : Sto) (h ea k : Nat) (ad : Nat → Nat) (i : Nat) (hL : IsList g σ h ea k ad) (hi : i < k) : Ct g l yJ2_elementData cJ2_elementData 2 (some (.object "java/lang/Object")) ({ frames := 0, cells := 0, slots := 0, locals := 0 } : Room) [.ref h, .int (nI i)] σ (fun r σ' => r = some (.ref (ad i)) ∧ σ' = σ) (nox) := by
  refine Ct.body (by decide) (Nat.le_of_ble_eq_true rfl) ?_
  intro p_ e_ s_ m_ args_ below_ meth_ c_ ls H locs Q F hW hl hQ
  have hl : lv_has ls 2 [(0, .ref h), (1, .int (nI i))] := hl
  obtain ⟨mc, n, f, e0, b0, e1, hn, hk, hn2, hf⟩ := hL
  have hn3 : k ≤ 90 := Nat.le_trans hk hn2
  refine lv_aload_n F.x F.cd dJ2_elementData_0 rfl (lv_at hl 0 rfl) ?_
  refine s_get F hW (ci := 2) (C := RJ2) (T := TJ2) (N := 3) (v := .ref ea) (e0) rfl in_J2 1 (by decide) q145 (fun _ h9 => h9) rfl dJ2_elementData_1 ?_
  refine lv_iload_n F.x F.cd dJ2_elementData_4 rfl (lv_at hl 1 rfl) ?_
  refine n_aald (i := i) (n := n) (f := f) (x := .ref (ad i)) F hW (e1) (by omega) (by omega) (by rw [hf i hi]; rfl) dJ2_elementData_5 ?_
  subst hQ
  exact s_reta F hW (Or.inl ⟨_, rfl⟩) (Or.inr ⟨_, rfl⟩) (⟨rfl, rfl⟩) ⟨(Nat.le_of_ble_eq_true rfl), (Nat.le_of_ble_eq_true rfl)⟩ dJ2_elementData_6
set_option maxHeartbeats 4000000 in
theorem k_J2_get (g : Gh) (l : Launch) (σ : Sto) (h ea k : Nat) (ad : Nat → Nat) (i : Nat) (hL : IsList g σ h ea k ad) (hi : i < k) : Ct g l yJ2_get cJ2_get 2 (some (.object "java/lang/Object")) ({ frames := 2, cells := 0, slots := 0, locals := 43 } : Room) [.ref h, .int (nI i)] σ (fun r σ' => r = some (.ref (ad i)) ∧ σ' = σ) (nox) := by
  refine Ct.body (by decide) (Nat.le_of_ble_eq_true rfl) ?_
  intro p_ e_ s_ m_ args_ below_ meth_ c_ ls H locs Q F hW hl hQ
  have hl : lv_has ls 2 [(0, .ref h), (1, .int (nI i))] := hl
  have hL0 := hL
  obtain ⟨mc, n, f, e0, b0, e1, hn, hk, hn2, hf⟩ := hL0
  have hn3 : k ≤ 90 := Nat.le_trans hk hn2
  refine lv_iload_n F.x F.cd dJ2_get_0 rfl (lv_at hl 1 rfl) ?_
  refine lv_aload_n F.x F.cd dJ2_get_1 rfl (lv_at hl 0 rfl) ?_
  refine s_get F hW (ci := 2) (C := RJ2) (T := TJ2) (N := 3) (v := .int (nI k)) (e0) rfl in_J2 2 (by decide) q146 (fun _ h9 => h9) rfl dJ2_get_2 ?_
  refine s_callS (As := [.int (nI i), .int (nI k)]) (rest := []) (n := 2) F hW (k_J9_checkIndex g l σ i k (by omega) (by omega)) q333 q334 q80 q335 (by decide +kernel) rfl ⟨⟨Nat.le_of_ble_eq_true rfl, Nat.le_of_ble_eq_true rfl⟩, ⟨(Nat.le_of_ble_eq_true rfl), (Nat.le_of_ble_eq_true rfl)⟩⟩ (Nat.le_of_ble_eq_true rfl) hl.1 rfl dJ2_get_5 cX_no (fun r1 σ1 H locs hp1 hW => ?_)
  obtain ⟨rfl, hs1⟩ := hp1
  rw [hs1] at hW
  refine W.eq (g2 := F0 m_ 8 ls (.int (nI i) :: [])) rfl ?_
  refine lv_pop F.x F.cd dJ2_get_8 rfl ?_
  refine lv_aload_n F.x F.cd dJ2_get_9 rfl (lv_at hl 0 rfl) ?_
  refine lv_iload_n F.x F.cd dJ2_get_10 rfl (lv_at hl 1 rfl) ?_
  refine s_callV (As := [.int (nI i)]) (rest := []) (C := RJ2) (T := TJ2) (N := 3) (n := 1) F hW (k_J2_elementData g l σ h _ _ _ i hL hi) (e0) rfl q339 q340 q341 q72 q342 rfl (by decide +kernel) rfl ⟨⟨Nat.le_of_ble_eq_true rfl, Nat.le_of_ble_eq_true rfl⟩, ⟨(Nat.le_of_ble_eq_true rfl), (Nat.le_of_ble_eq_true rfl)⟩⟩ (Nat.le_of_ble_eq_true rfl) hl.1 rfl dJ2_get_11 cX_no (fun r2 σ2 H locs hp2 hW => ?_)
  obtain ⟨rfl, hs2⟩ := hp2
  rw [hs2] at hW
  refine W.eq (g2 := F0 m_ 14 ls (.ref (ad i) :: [])) rfl ?_
  subst hQ
  exact s_reta F hW (Or.inl ⟨_, rfl⟩) (Or.inr ⟨_, rfl⟩) (⟨rfl, rfl⟩) ⟨(Nat.le_of_ble_eq_true rfl), (Nat.le_of_ble_eq_true rfl)⟩ dJ2_get_14
set_option maxHeartbeats 4000000 in
theorem k_J15_newLength (g : Gh) (l : Launch) (σ : Sto) (a b c : Nat) (ha : a < 1000000) (hb : b < 1000000) (hc : c < 1000000) (h0 : 0 < a) : Ct g l yJ15_newLength cJ15_newLength 4 (some .int) ({ frames := 1, cells := 0, slots := 0, locals := 24 } : Room) [.int (nI a), .int (nI b), .int (nI c)] σ (fun r σ' => r = some (.int (nI (a + max b c))) ∧ σ' = σ) (nox) := by
  refine Ct.body (by decide) (Nat.le_of_ble_eq_true rfl) ?_
  intro p_ e_ s_ m_ args_ below_ meth_ c_ ls H locs Q F hW hl hQ
  have hl : lv_has ls 4 [(0, .int (nI a)), (1, .int (nI b)), (2, .int (nI c))] := hl
  refine lv_iload_n F.x F.cd dJ15_newLength_0 rfl (lv_at hl 0 rfl) ?_
  refine lv_iload_n F.x F.cd dJ15_newLength_1 rfl (lv_at hl 1 rfl) ?_
  refine lv_iload_n F.x F.cd dJ15_newLength_2 rfl (lv_at hl 2 rfl) ?_
  refine s_mmax (v := (nI (max b c))) F q434 q435 q87 q436 hl.1 (Nat.le_of_ble_eq_true rfl) (Nat.le_of_ble_eq_true rfl) (Nat.le_of_ble_eq_true rfl) (Nat.le_of_ble_eq_true rfl) (nI_max (by omega) (by omega)) dJ15_newLength_3 ?_
  refine a_iadd (v := (nI (a + (max b c)))) F (nI_add _ _) dJ15_newLength_6 ?_
  refine lv_istore_n (lv' := [(3, .int (nI (a + (max b c)))), (0, .int (nI a)), (1, .int (nI b)), (2, .int (nI c))]) F.x F.cd dJ15_newLength_7 rfl hl (by decide) rfl (fun ls hl => ?_)
  refine lv_iconst (v := (nI 0)) F.x F.cd dJ15_newLength_8 (by decide) ?_
  refine lv_iload_n F.x F.cd dJ15_newLength_9 rfl (lv_at hl 0 rfl) ?_
  refine n_icmp_ge (a := 0) (b := a + (max b c)) (tgt := 21) F (by omega) (by omega) dJ15_newLength_10 (by decide) (fun c_10 => ?_) (fun c_10 => ?_)
  · exact absurd c_10 (by omega)
  · refine lv_iload_n F.x F.cd dJ15_newLength_13 rfl (lv_at hl 0 rfl) ?_
    refine lv_ldc (v := (nI 2147483639)) F.x F.cd F.ow (F.ts _ q437) dJ15_newLength_14 ?_
    refine n_icmp_gt (a := a + (max b c)) (b := 2147483639) (tgt := 21) F (by omega) (by omega) dJ15_newLength_16 (by decide) (fun c_16 => ?_) (fun c_16 => ?_)
    · exact absurd c_16 (by omega)
    · refine lv_iload_n F.x F.cd dJ15_newLength_19 rfl (lv_at hl 0 rfl) ?_
      subst hQ
      exact s_reti (v := (nI (a + (max b c)))) F hW rfl (⟨rfl, rfl⟩) ⟨(Nat.le_of_ble_eq_true rfl), (Nat.le_of_ble_eq_true rfl)⟩ dJ15_newLength_20
set_option maxHeartbeats 4000000 in
theorem k_J17_copyOf_3 (g : Gh) (l : Launch) (σ : Sto) (a n n' : Nat) (f : Nat → Option Nat) (e0 : σ a = some (eR g n f)) (hE : Els σ f n) (hnn : n ≤ n') (hn : n' ≤ 90) : Ct g l yJ17_copyOf_3 cJ17_copyOf_3 4 (some (.array (.object "java/lang/Object"))) ({ frames := 1, cells := 1, slots := 90, locals := 60 } : Room) [.ref a, .int (nI n'), .ref (gA g 9)] σ (fun r σ' => ∃ q, r = some (.ref q) ∧ σ q = none ∧ gB g ≤ q ∧ σ' = sset σ q (eR g n' (va_cpy f (fun _ => none) 0 0 n))) (nox) := by
  refine Ct.body (by decide) (Nat.le_of_ble_eq_true rfl) ?_
  intro p_ e_ s_ m_ args_ below_ meth_ c_ ls H locs Q F hW hl hQ
  have hl : lv_has ls 4 [(0, .ref a), (1, .int (nI n')), (2, .ref (gA g 9))] := hl
  refine lv_aload_n F.x F.cd dJ17_copyOf_3_0 rfl (lv_at hl 2 rfl) ?_
  refine va_ldcM F.x F.cd F.ow (F.ts _ q1024) F.ok.2.2.2.2.2.2.2.2.2.2.2.1 dJ17_copyOf_3_1 ?_
  refine n_acmp_ne (x := (gA g 9)) (y := (gA g 9)) (tgt := 13) F dJ17_copyOf_3_3 (by decide) (fun c_3 => ?_) (fun c_3 => ?_)
  · exact absurd rfl c_3
  · refine lv_iload_n F.x F.cd dJ17_copyOf_3_6 rfl (lv_at hl 1 rfl) ?_
    refine s_newq F hW (N := n') q1026 (nI_pos (by omega)) (nI_clamp (by omega)) (by omega) (Nat.le_of_ble_eq_true rfl) (Nat.le_trans (m := 90) (by omega) (Nat.le_of_ble_eq_true rfl)) dJ17_copyOf_3_7 (fun q1_ H hb_q1_ hn_q1_ hW => ?_)
    refine W.widen (k := 1) (n := 90) (Nat.le_of_ble_eq_true rfl) (by omega) ?_
    obtain ⟨σ2, hσ2⟩ : ∃ z, z = sset σ q1_ (eR g n' (fun _ => none)) := ⟨_, rfl⟩
    have hW : Hl g σ2 H locs := by rw [hσ2]; exact hW
    have w2 : σ2 q1_ = some (eR g n' (fun _ => none)) := by rw [hσ2]; exact sset_eq
    have f3 : σ2 a = some (eR g n f) := by rw [hσ2, sset_ne (sto_ne0 hn_q1_ e0)]; exact e0
    refine lv_goto (tgt := 24) F.x F.cd dJ17_copyOf_3_10 (by decide) ?_
    refine lv_astore_n (lv' := [(3, .ref q1_), (0, .ref a), (1, .int (nI n')), (2, .ref (gA g 9))]) F.x F.cd dJ17_copyOf_3_24 rfl hl (by decide) rfl (fun ls hl => ?_)
    refine lv_aload_n F.x F.cd dJ17_copyOf_3_25 rfl (lv_at hl 1 rfl) ?_
    refine lv_iconst (v := (nI 0)) F.x F.cd dJ17_copyOf_3_26 (by decide) ?_
    refine lv_aload_n F.x F.cd dJ17_copyOf_3_27 rfl (lv_at hl 0 rfl) ?_
    refine lv_iconst (v := (nI 0)) F.x F.cd dJ17_copyOf_3_28 (by decide) ?_
    refine lv_aload_n F.x F.cd dJ17_copyOf_3_29 rfl (lv_at hl 1 rfl) ?_
    refine s_alen F hW (f3) 6 rfl (v := nI n) rfl dJ17_copyOf_3_30 ?_
    refine lv_iload_n F.x F.cd dJ17_copyOf_3_31 rfl (lv_at hl 2 rfl) ?_
    refine s_mmin (v := (nI (min n n'))) F q452 q453 q87 q454 hl.1 (Nat.le_of_ble_eq_true rfl) (Nat.le_of_ble_eq_true rfl) (Nat.le_of_ble_eq_true rfl) (Nat.le_of_ble_eq_true rfl) (nI_min (by omega) (by omega)) dJ17_copyOf_3_32 ?_
    refine n_copyq F hW (sp := 0) (dp := 0) (n := min n n') q455 q457 q456 q89 (f3) (w2) (hb_q1_) (by omega) (by omega) (by omega) (by omega) (by rw [show min n n' = n by omega]; exact Els.at0 (by rw [hσ2]; exact hE.fresh hn_q1_)) hl.1 (Nat.le_of_ble_eq_true rfl) (Nat.le_of_ble_eq_true rfl) dJ17_copyOf_3_35 (fun H locs hW => ?_)
    obtain ⟨σ4, hσ4⟩ : ∃ z, z = sset σ2 q1_ (eR g n' (va_cpy f (fun _ => none) 0 0 (min n n'))) := ⟨_, rfl⟩
    have hW : Hl g σ4 H locs := by rw [hσ4]; exact hW
    have w4 : σ4 q1_ = some (eR g n' (va_cpy f (fun _ => none) 0 0 (min n n'))) := by rw [hσ4]; exact sset_eq
    have f5 : σ4 a = some (eR g n f) := by rw [hσ4, sset_ne (sto_ne0 hn_q1_ e0)]; exact f3
    refine lv_aload_n F.x F.cd dJ17_copyOf_3_38 rfl (lv_at hl 0 rfl) ?_
    subst hQ
    exact s_reta F hW (Or.inr ⟨_, rfl⟩) (Or.inr ⟨_, rfl⟩) (⟨q1_, rfl, hn_q1_, hb_q1_, by rw [hσ4, hσ2, sset_sset, show min n n' = n by omega]⟩) ⟨(Nat.le_of_ble_eq_true rfl), (Nat.le_of_ble_eq_true rfl)⟩ dJ17_copyOf_3_39
set_option maxHeartbeats 4000000 in
theorem k_J17_copyOf_2 (g : Gh) (l : Launch) (σ : Sto) (a n n' : Nat) (f : Nat → Option Nat) (e0 : σ a = some (eR g n f)) (hE : Els σ f n) (hnn : n ≤ n') (hn : n' ≤ 90) : Ct g l yJ17_copyOf_2 cJ17_copyOf_2 2 (some (.array (.object "java/lang/Object"))) ({ frames := 2, cells := 1, slots := 90, locals := 83 } : Room) [.ref a, .int (nI n')] σ (fun r σ' => ∃ q, r = some (.ref q) ∧ σ q = none ∧ gB g ≤ q ∧ σ' = sset σ q (eR g n' (va_cpy f (fun _ => none) 0 0 n))) (nox) := by
  refine Ct.body (by decide) (Nat.le_of_ble_eq_true rfl) ?_
  intro p_ e_ s_ m_ args_ below_ meth_ c_ ls H locs Q F hW hl hQ
  have hl : lv_has ls 2 [(0, .ref a), (1, .int (nI n'))] := hl
  refine lv_aload_n F.x F.cd dJ17_copyOf_2_0 rfl (lv_at hl 0 rfl) ?_
  refine lv_iload_n F.x F.cd dJ17_copyOf_2_1 rfl (lv_at hl 1 rfl) ?_
  refine lv_aload_n F.x F.cd dJ17_copyOf_2_2 rfl (lv_at hl 0 rfl) ?_
  refine s_getClass F hW (e0) q988 q2866 q989 q1020 hl.1 (Nat.le_of_ble_eq_true rfl) (Nat.le_of_ble_eq_true rfl) dJ17_copyOf_2_3 ?_
  refine s_callS (As := [.ref a, .int (nI n'), .ref (gA g 9)]) (rest := []) (n := 3) F hW (k_J17_copyOf_3 g l σ a n n' f (e0) hE hnn hn) q1021 q1022 q88 q1023 (by decide +kernel) rfl ⟨⟨Nat.le_of_ble_eq_true rfl, Nat.le_of_ble_eq_true rfl⟩, ⟨(Nat.le_of_ble_eq_true rfl), (Nat.le_of_ble_eq_true rfl)⟩⟩ (Nat.le_of_ble_eq_true rfl) hl.1 rfl dJ17_copyOf_2_6 cX_no (fun r1 σ1 H locs hp1 hW => ?_)
  obtain ⟨q9, rfl, hq1, hq2, rfl⟩ := hp1
  refine W.eq (g2 := F0 m_ 9 ls (.ref q9 :: [])) rfl ?_
  subst hQ
  exact s_reta F hW (Or.inr ⟨_, rfl⟩) (Or.inr ⟨_, rfl⟩) (⟨q9, rfl, hq1, hq2, rfl⟩) ⟨(Nat.le_of_ble_eq_true rfl), (Nat.le_of_ble_eq_true rfl)⟩ dJ17_copyOf_2_9
set_option maxHeartbeats 4000000 in
theorem k_J2_grow_20 (g : Gh) (l : Launch) (σ : Sto) (h : Nat) (k : Nat) (mc : Int32) (f : Nat → Option Nat) (e0 : σ h = some (.inr (2, [.int mc, .ref (gA g 0), .int (nI k)]))) (b0 : gB g ≤ h) (e1 : σ (gA g 0) = some (eR g 0 f)) (hk : k = 0) : Ct g l yJ2_grow_2 cJ2_grow_2 4 (some (.array (.object "java/lang/Object"))) ({ frames := 4, cells := 1, slots := 90, locals := 200 } : Room) [.ref h, .int (nI (k + 1))] σ (fun r σ' => ∃ (q n' : Nat) (f' : Nat → Option Nat), r = some (.ref q) ∧ σ q = none ∧ gB g ≤ q ∧ k < n' ∧ 10 ≤ n' ∧ n' ≤ 90 ∧ (∀ i, i < k → f' i = f i) ∧ σ' = sset (sset σ q (eR g n' f')) h (.inr (2, [.int mc, .ref q, .int (nI k)]))) (nox) := by
  refine Ct.body (by decide) (Nat.le_of_ble_eq_true rfl) ?_
  intro p_ e_ s_ m_ args_ below_ meth_ c_ ls H locs Q F hW hl hQ
  have hl : lv_has ls 4 [(0, .ref h), (1, .int (nI (k + 1)))] := hl
  refine lv_aload_n F.x F.cd dJ2_grow_2_0 rfl (lv_at hl 0 rfl) ?_
  refine s_get F hW (ci := 2) (C := RJ2) (T := TJ2) (N := 3) (v := .ref (gA g 0)) (e0) rfl in_J2 1 (by decide) q145 (fun _ h9 => h9) rfl dJ2_grow_2_1 ?_
  refine s_alen F hW (e1) 6 rfl (v := nI 0) rfl dJ2_grow_2_4 ?_
  refine lv_istore_n (lv' := [(2, .int (nI 0)), (0, .ref h), (1, .int (nI (k + 1)))]) F.x F.cd dJ2_grow_2_5 rfl hl (by decide) rfl (fun ls hl => ?_)
  refine lv_iload_n F.x F.cd dJ2_grow_2_6 rfl (lv_at hl 0 rfl) ?_
  refine n_if_gt (a := 0) (tgt := 20) F (by omega) dJ2_grow_2_7 (by decide) (fun c_7 => absurd c_7 (by decide)) (fun c_7 => ?_)
  refine lv_aload_n F.x F.cd dJ2_grow_2_10 rfl (lv_at hl 1 rfl) ?_
  refine s_get F hW (ci := 2) (C := RJ2) (T := TJ2) (N := 3) (v := .ref (gA g 0)) (e0) rfl in_J2 1 (by decide) q145 (fun _ h9 => h9) rfl dJ2_grow_2_11 ?_
  refine s_gets F hW (v := .ref (gA g 0)) (List.mem_of_getElem? (i := 0) rfl) q143 (fun _ h9 => h9) dJ2_grow_2_14 ?_
  refine n_acmp_eq (x := (gA g 0)) (y := (gA g 0)) (tgt := 45) F dJ2_grow_2_17 (by decide) (fun c_17 => ?_) (fun c_17 => ?_)
  · refine lv_aload_n F.x F.cd dJ2_grow_2_45 rfl (lv_at hl 1 rfl) ?_
    refine lv_bipush (v := (nI 10)) F.x F.cd dJ2_grow_2_46 (by decide) ?_
    refine lv_iload_n F.x F.cd dJ2_grow_2_48 rfl (lv_at hl 2 rfl) ?_
    refine s_mmax (v := (nI 10)) F q1027 q435 q87 q436 hl.1 (Nat.le_of_ble_eq_true rfl) (Nat.le_of_ble_eq_true rfl) (Nat.le_of_ble_eq_true rfl) (Nat.le_of_ble_eq_true rfl) (by rw [nI_max (by omega) (by omega)]; congr 1; omega) dJ2_grow_2_49 ?_
    refine s_newq F hW (N := 10) q1028 (nI_pos (by omega)) (nI_clamp (by omega)) (by omega) (Nat.le_of_ble_eq_true rfl) (Nat.le_of_ble_eq_true rfl) dJ2_grow_2_52 (fun q1_ H hb_q1_ hn_q1_ hW => ?_)
    obtain ⟨σ2, hσ2⟩ : ∃ z, z = sset σ q1_ (eR g 10 (fun _ => none)) := ⟨_, rfl⟩
    have hW : Hl g σ2 H locs := by rw [hσ2]; exact hW
    have w2 : σ2 q1_ = some (eR g 10 (fun _ => none)) := by rw [hσ2]; exact sset_eq
    have f3 : σ2 h = some (.inr (2, [.int mc, .ref (gA g 0), .int (nI k)])) := by rw [hσ2, sset_ne (sto_ne0 hn_q1_ e0)]; exact e0
    have f4 : σ2 (gA g 0) = some (eR g 0 f) := by rw [hσ2, sset_ne (sto_ne0 hn_q1_ e1)]; exact e1
    refine lv_dup_x1 F.x F.cd dJ2_grow_2_55 rfl rfl ?_
    refine s_put F hW (ci := 2) (C := RJ2) (T := TJ2) (N := 3) (v := .ref q1_) (ty := (.array (.object "java/lang/Object"))) (f3) (b0) rfl in_J2 tyJ2_ok nmJ2 1 (by decide) q145 (fun _ h9 => h9) rfl (by decide +kernel) rfl rfl (Nat.le_of_ble_eq_true rfl) dJ2_grow_2_56 (fun H locs hW => ?_)
    obtain ⟨σ6, hσ6⟩ : ∃ z, z = sset σ2 h (.inr (2, [.int mc, .ref q1_, .int (nI k)])) := ⟨_, rfl⟩
    have hW : Hl g σ6 H locs := by rw [hσ6]; exact hW
    have w6 : σ6 h = some (.inr (2, [.int mc, .ref q1_, .int (nI k)])) := by rw [hσ6]; exact sset_eq
    have f7 : σ6 (gA g 0) = some (eR g 0 f) := by rw [hσ6, sset_ne (sto_ne f3 f4 (by simp))]; exact f4
    have f8 : σ6 q1_ = some (eR g 10 (fun _ => none)) := by rw [hσ6, sset_ne (Ne.symm (sto_ne0 hn_q1_ e0))]; exact w2
    subst hQ
    exact s_reta F hW (Or.inr ⟨_, rfl⟩) (Or.inr ⟨_, rfl⟩) (⟨q1_, 10, (fun _ => none), rfl, hn_q1_, hb_q1_, by omega, by omega, by omega, fun i hi => absurd hi (by omega), by rw [hσ6, hσ2]⟩) ⟨(Nat.le_of_ble_eq_true rfl), (Nat.le_of_ble_eq_true rfl)⟩ dJ2_grow_2_59
  · exact absurd rfl c_17
set_option maxHeartbeats 4000000 in
theorem k_J2_grow_2n (g : Gh) (l : Launch) (σ : Sto) (h ea : Nat) (k n : Nat) (mc : Int32) (f : Nat → Option Nat) (e0 : σ h = some (.inr (2, [.int mc, .ref ea, .int (nI k)]))) (b0 : gB g ≤ h) (e1 : σ ea = some (eR g n f)) (hE : Els σ f n) (hk : k = n) (hn : 10 ≤ n) (hn2 : n ≤ 60) : Ct g l yJ2_grow_2 cJ2_grow_2 4 (some (.array (.object "java/lang/Object"))) ({ frames := 4, cells := 1, slots := 90, locals := 200 } : Room) [.ref h, .int (nI (k + 1))] σ (fun r σ' => ∃ (q n' : Nat) (f' : Nat → Option Nat), r = some (.ref q) ∧ σ q = none ∧ gB g ≤ q ∧ k < n' ∧ 10 ≤ n' ∧ n' ≤ 90 ∧ (∀ i, i < k → f' i = f i) ∧ σ' = sset (sset σ q (eR g n' f')) h (.inr (2, [.int mc, .ref q, .int (nI k)]))) (nox) := by
  refine Ct.body (by decide) (Nat.le_of_ble_eq_true rfl) ?_
  intro p_ e_ s_ m_ args_ below_ meth_ c_ ls H locs Q F hW hl hQ
  have hl : lv_has ls 4 [(0, .ref h), (1, .int (nI (k + 1)))] := hl
  refine lv_aload_n F.x F.cd dJ2_grow_2_0 rfl (lv_at hl 0 rfl) ?_
  refine s_get F hW (ci := 2) (C := RJ2) (T := TJ2) (N := 3) (v := .ref ea) (e0) rfl in_J2 1 (by decide) q145 (fun _ h9 => h9) rfl dJ2_grow_2_1 ?_
  refine s_alen F hW (e1) 6 rfl (v := nI n) rfl dJ2_grow_2_4 ?_
  refine lv_istore_n (lv' := [(2, .int (nI n)), (0, .ref h), (1, .int (nI (k + 1)))]) F.x F.cd dJ2_grow_2_5 rfl hl (by decide) rfl (fun ls hl => ?_)
  refine lv_iload_n F.x F.cd dJ2_grow_2_6 rfl (lv_at hl 0 rfl) ?_
  refine n_if_gt (a := n) (tgt := 20) F (by omega) dJ2_grow_2_7 (by decide) (fun c_7 => ?_) (fun c_7 => ?_)
  · refine lv_iload_n F.x F.cd dJ2_grow_2_20 rfl (lv_at hl 0 rfl) ?_
    refine lv_iload_n F.x F.cd dJ2_grow_2_21 rfl (lv_at hl 2 rfl) ?_
    refine lv_iload_n F.x F.cd dJ2_grow_2_22 rfl (lv_at hl 0 rfl) ?_
    refine a_isub (v := (nI 1)) F (by rw [pk_sub (by omega)]; congr 1; omega) dJ2_grow_2_23 ?_
    refine lv_iload_n F.x F.cd dJ2_grow_2_24 rfl (lv_at hl 0 rfl) ?_
    refine lv_iconst (v := (nI 1)) F.x F.cd dJ2_grow_2_25 (by decide) ?_
    refine a_ishr (v := (nI (n / 2))) F ((pk_shrN (by omega) (nI 1 &&& 31) 1 (by decide)).trans (by rw [Nat.pow_one])) dJ2_grow_2_26 ?_
    refine s_callS (As := [.int (nI n), .int (nI 1), .int (nI (n / 2))]) (rest := []) (n := 3) F hW (k_J15_newLength g l σ n 1 (n / 2) (by omega) (by omega) (by omega) (by omega)) q984 q432 q86 q433 (by decide +kernel) rfl ⟨⟨Nat.le_of_ble_eq_true rfl, Nat.le_of_ble_eq_true rfl⟩, ⟨(Nat.le_of_ble_eq_true rfl), (Nat.le_of_ble_eq_true rfl)⟩⟩ (Nat.le_of_ble_eq_true rfl) hl.1 rfl dJ2_grow_2_27 cX_no (fun r1 σ1 H locs hp1 hW => ?_)
    obtain ⟨rfl, hs1⟩ := hp1
    rw [hs1] at hW
    refine W.eq (g2 := F0 m_ 30 ls (.int (nI (n + max 1 (n / 2))) :: [])) rfl ?_
    refine lv_istore_n (lv' := [(3, .int (nI (n + max 1 (n / 2)))), (2, .int (nI n)), (0, .ref h), (1, .int (nI (k + 1)))]) F.x F.cd dJ2_grow_2_30 rfl hl (by decide) rfl (fun ls hl => ?_)
    refine lv_aload_n F.x F.cd dJ2_grow_2_31 rfl (lv_at hl 2 rfl) ?_
    refine lv_aload_n F.x F.cd dJ2_grow_2_32 rfl (lv_at hl 2 rfl) ?_
    refine s_get F hW (ci := 2) (C := RJ2) (T := TJ2) (N := 3) (v := .ref ea) (e0) rfl in_J2 1 (by decide) q145 (fun _ h9 => h9) rfl dJ2_grow_2_33 ?_
    refine lv_iload_n F.x F.cd dJ2_grow_2_36 rfl (lv_at hl 0 rfl) ?_
    refine s_callS (As := [.ref ea, .int (nI (n + max 1 (n / 2)))]) (rest := [.ref h]) (n := 2) F hW (k_J17_copyOf_2 g l σ ea n (n + max 1 (n / 2)) f (e1) hE (by omega) (by omega)) q985 q986 q88 q987 (by decide +kernel) rfl ⟨⟨Nat.le_of_ble_eq_true rfl, Nat.le_of_ble_eq_true rfl⟩, ⟨(Nat.le_of_ble_eq_true rfl), (Nat.le_of_ble_eq_true rfl)⟩⟩ (Nat.le_of_ble_eq_true rfl) hl.1 rfl dJ2_grow_2_37 cX_no (fun r2 σ2 H locs hp2 hW => ?_)
    obtain ⟨q9, rfl, hq1, hq2, rfl⟩ := hp2
    refine W.eq (g2 := F0 m_ 40 ls (.ref q9 :: .ref h :: [])) rfl ?_
    obtain ⟨σ3, hσ3⟩ : ∃ z, z = sset σ q9 (eR g (n + max 1 (n / 2)) (va_cpy f (fun _ => none) 0 0 n)) := ⟨_, rfl⟩
    have hW : Hl g σ3 H locs := by rw [hσ3]; exact hW
    have w3 : σ3 q9 = some (eR g (n + max 1 (n / 2)) (va_cpy f (fun _ => none) 0 0 n)) := by rw [hσ3]; exact sset_eq
    have f4 : σ3 h = some (.inr (2, [.int mc, .ref ea, .int (nI k)])) := by rw [hσ3, sset_ne (sto_ne0 hq1 e0)]; exact e0
    have f5 : σ3 ea = some (eR g n f) := by rw [hσ3, sset_ne (sto_ne0 hq1 e1)]; exact e1
    refine lv_dup_x1 F.x F.cd dJ2_grow_2_40 rfl rfl ?_
    refine s_put F hW (ci := 2) (C := RJ2) (T := TJ2) (N := 3) (v := .ref q9) (ty := (.array (.object "java/lang/Object"))) (f4) (b0) rfl in_J2 tyJ2_ok nmJ2 1 (by decide) q145 (fun _ h9 => h9) rfl (by decide +kernel) rfl rfl (Nat.le_of_ble_eq_true rfl) dJ2_grow_2_41 (fun H locs hW => ?_)
    obtain ⟨σ7, hσ7⟩ : ∃ z, z = sset σ3 h (.inr (2, [.int mc, .ref q9, .int (nI k)])) := ⟨_, rfl⟩
    have hW : Hl g σ7 H locs := by rw [hσ7]; exact hW
    have w7 : σ7 h = some (.inr (2, [.int mc, .ref q9, .int (nI k)])) := by rw [hσ7]; exact sset_eq
    have f8 : σ7 ea = some (eR g n f) := by rw [hσ7, sset_ne (sto_ne f4 f5 (by simp))]; exact f5
    have f9 : σ7 q9 = some (eR g (n + max 1 (n / 2)) (va_cpy f (fun _ => none) 0 0 n)) := by rw [hσ7, sset_ne (Ne.symm (sto_ne0 hq1 e0))]; exact w3
    subst hQ
    exact s_reta F hW (Or.inr ⟨_, rfl⟩) (Or.inr ⟨_, rfl⟩) (⟨q9, n + max 1 (n / 2), va_cpy f (fun _ => none) 0 0 n, rfl, hq1, hq2, by omega, by omega, by omega, fun i hi => va_cpy0 (by omega), by rw [hσ7, hσ3]⟩) ⟨(Nat.le_of_ble_eq_true rfl), (Nat.le_of_ble_eq_true rfl)⟩ dJ2_grow_2_44
  · exact absurd c_7 (by omega)
theorem k_J2_grow_2 (g : Gh) (l : Launch) (σ : Sto) (h ea : Nat) (k n : Nat) (mc : Int32) (f : Nat → Option Nat) (e0 : σ h = some (.inr (2, [.int mc, .ref ea, .int (nI k)]))) (b0 : gB g ≤ h) (e1 : σ ea = some (eR g n f)) (hE : Els σ f n) (hk : k = n) (hn : (n = 0 ∧ ea = gA g 0) ∨ (10 ≤ n ∧ gB g ≤ ea)) (hn2 : n ≤ 60) : Ct g l yJ2_grow_2 cJ2_grow_2 4 (some (.array (.object "java/lang/Object"))) ({ frames := 4, cells := 1, slots := 90, locals := 200 } : Room) [.ref h, .int (nI (k + 1))] σ (fun r σ' => ∃ (q n' : Nat) (f' : Nat → Option Nat), r = some (.ref q) ∧ σ q = none ∧ gB g ≤ q ∧ k < n' ∧ 10 ≤ n' ∧ n' ≤ 90 ∧ (∀ i, i < k → f' i = f i) ∧ σ' = sset (sset σ q (eR g n' f')) h (.inr (2, [.int mc, .ref q, .int (nI k)]))) nox := by
  rcases hn with ⟨h1, h2⟩ | ⟨h1, h2⟩
  · subst h1 h2
    exact k_J2_grow_20 g l σ h k mc f e0 b0 e1 hk
  · exact k_J2_grow_2n g l σ h ea k n mc f e0 b0 e1 hE hk h1 hn2
set_option maxHeartbeats 4000000 in
theorem k_J2_grow (g : Gh) (l : Launch) (σ : Sto) (h ea : Nat) (k n : Nat) (mc : Int32) (f : Nat → Option Nat) (e0 : σ h = some (.inr (2, [.int mc, .ref ea, .int (nI k)]))) (b0 : gB g ≤ h) (e1 : σ ea = some (eR g n f)) (hE : Els σ f n) (hk : k = n) (hn : (n = 0 ∧ ea = gA g 0) ∨ (10 ≤ n ∧ gB g ≤ ea)) (hn2 : n ≤ 60) : Ct g l yJ2_grow cJ2_grow 1 (some (.array (.object "java/lang/Object"))) ({ frames := 5, cells := 1, slots := 90, locals := 223 } : Room) [.ref h] σ (fun r σ' => ∃ (q n' : Nat) (f' : Nat → Option Nat), r = some (.ref q) ∧ σ q = none ∧ gB g ≤ q ∧ k < n' ∧ 10 ≤ n' ∧ n' ≤ 90 ∧ (∀ i, i < k → f' i = f i) ∧ σ' = sset (sset σ q (eR g n' f')) h (.inr (2, [.int mc, .ref q, .int (nI k)]))) (nox) := by
  refine Ct.body (by decide) (Nat.le_of_ble_eq_true rfl) ?_
  intro p_ e_ s_ m_ args_ below_ meth_ c_ ls H locs Q F hW hl hQ
  have hl : lv_has ls 1 [(0, .ref h)] := hl
  have hk60 : k ≤ 60 := by omega
  refine lv_aload_n F.x F.cd dJ2_grow_0 rfl (lv_at hl 0 rfl) ?_
  refine lv_aload_n F.x F.cd dJ2_grow_1 rfl (lv_at hl 0 rfl) ?_
  refine s_get F hW (ci := 2) (C := RJ2) (T := TJ2) (N := 3) (v := .int (nI k)) (e0) rfl in_J2 2 (by decide) q146 (fun _ h9 => h9) rfl dJ2_grow_2 ?_
  refine lv_iconst (v := (nI 1)) F.x F.cd dJ2_grow_5 (by decide) ?_
  refine a_iadd (v := (nI (k + 1))) F (nI_add _ _) dJ2_grow_6 ?_
  refine s_callV (As := [.int (nI (k + 1))]) (rest := []) (C := RJ2) (T := TJ2) (N := 3) (n := 1) F hW (k_J2_grow_2 g l σ h ea k n mc f e0 b0 e1 hE hk hn hn2) (e0) rfl q980 q982 qs10 q72 q983 rfl (by decide +kernel) rfl ⟨⟨Nat.le_of_ble_eq_true rfl, Nat.le_of_ble_eq_true rfl⟩, ⟨(Nat.le_of_ble_eq_true rfl), (Nat.le_of_ble_eq_true rfl)⟩⟩ (Nat.le_of_ble_eq_true rfl) hl.1 rfl dJ2_grow_7 cX_no (fun r1 σ1 H locs hp1 hW => ?_)
  obtain ⟨q9, n9, f9, rfl, hq1, hq2, hn91, hn92, hn93, hf9, hs9⟩ := hp1
  rw [hs9] at hW
  refine W.eq (g2 := F0 m_ 10 ls (.ref q9 :: [])) rfl ?_
  subst hQ
  exact s_reta F hW (Or.inr ⟨_, rfl⟩) (Or.inr ⟨_, rfl⟩) (⟨q9, n9, f9, rfl, hq1, hq2, hn91, hn92, hn93, hf9, rfl⟩) ⟨(Nat.le_of_ble_eq_true rfl), (Nat.le_of_ble_eq_true rfl)⟩ dJ2_grow_10
set_option maxHeartbeats 4000000 in
theorem k_J2_add_2 (g : Gh) (l : Launch) (σ : Sto) (h ea k : Nat) (ad : Nat → Nat) (v cv : Nat) (vs : List Value) (r : vw_C) (n : Nat) (f : Nat → Option Nat) (mc : Int32) (e0 : σ h = some (.inr (2, [.int mc, .ref ea, .int (nI k)]))) (b0 : gB g ≤ h) (e1 : σ ea = some (eR g n f)) (hn : (n = 0 ∧ ea = gA g 0) ∨ (10 ≤ n ∧ gB g ≤ ea)) (hk : k ≤ n) (hn2 : n ≤ 90) (hf : ∀ i, i < k → f i = some (ad i)) (ev : σ v = some (.inr (cv, vs))) (hcv : cv ≠ 2) (hr : vCl[cv]? = some r) (hca : Cond.castable r.1 "java/lang/Object" ∈ lw_tbl) (hE : Elm σ k ad) (hk9 : k < 60) : Ct g l yJ2_add_2 cJ2_add_2 4 none ({ frames := 6, cells := 1, slots := 90, locals := 243 } : Room) [.ref h, .ref v, .ref ea, .int (nI k)] σ (fun r' σ' => r' = none ∧ AddP g σ σ' h ea k ad v) (nox) := by
  refine Ct.body (by decide) (Nat.le_of_ble_eq_true rfl) ?_
  intro p_ e_ s_ m_ args_ below_ meth_ c_ ls H locs Q F hW hl hQ
  have hl : lv_has ls 4 [(0, .ref h), (1, .ref v), (2, .ref ea), (3, .int (nI k))] := hl
  have hvh : v ≠ h := fun q => by subst q; exact hcv (by rw [ev] at e0; cases e0; rfl)
  have heh : ea ≠ h := sto_ne e0 e1 (by simp)
  have hve : v ≠ ea := sto_ne e1 ev (by simp)
  refine lv_iload_n F.x F.cd dJ2_add_2_0 rfl (lv_at hl 3 rfl) ?_
  refine lv_aload_n F.x F.cd dJ2_add_2_1 rfl (lv_at hl 2 rfl) ?_
  refine s_alen F hW (e1) 6 rfl (v := nI n) rfl dJ2_add_2_2 ?_
  refine n_icmp_ne (a := k) (b := n) (tgt := 11) F (by omega) (by omega) dJ2_add_2_3 (by decide) (fun c_3 => ?_) (fun c_3 => ?_)
  · have h10 : 10 ≤ n := by omega
    have hbe : gB g ≤ ea := by rcases hn with ⟨h1, h2⟩ | ⟨h1, h2⟩; exact absurd h1 (by omega); exact h2
    refine lv_aload_n F.x F.cd dJ2_add_2_11 rfl (lv_at hl 2 rfl) ?_
    refine lv_iload_n F.x F.cd dJ2_add_2_12 rfl (lv_at hl 3 rfl) ?_
    refine lv_aload_n F.x F.cd dJ2_add_2_13 rfl (lv_at hl 1 rfl) ?_
    refine n_aast (i := k) F hW (e1) (hbe) (ev) hr hca (by omega) (by omega) dJ2_add_2_14 (fun H locs hW => ?_)
    obtain ⟨σ1, hσ1⟩ : ∃ z, z = sset σ ea (eR g n (va_up f k (some v))) := ⟨_, rfl⟩
    have hW : Hl g σ1 H locs := by rw [hσ1]; exact hW
    have w1 : σ1 ea = some (eR g n (va_up f k (some v))) := by rw [hσ1]; exact sset_eq
    have f2 : σ1 h = some (.inr (2, [.int mc, .ref ea, .int (nI k)])) := by rw [hσ1, sset_ne (sto_ne e1 e0 (by simp))]; exact e0
    have f3 : σ1 v = some (.inr (cv, vs)) := by rw [hσ1, sset_ne (sto_ne e1 ev (by simp))]; exact ev
    refine lv_aload_n F.x F.cd dJ2_add_2_15 rfl (lv_at hl 0 rfl) ?_
    refine lv_iload_n F.x F.cd dJ2_add_2_16 rfl (lv_at hl 3 rfl) ?_
    refine lv_iconst (v := (nI 1)) F.x F.cd dJ2_add_2_17 (by decide) ?_
    refine a_iadd (v := (nI (k + 1))) F (nI_add _ _) dJ2_add_2_18 ?_
    refine s_put F hW (ci := 2) (C := RJ2) (T := TJ2) (N := 3) (v := .int (nI (k + 1))) (ty := .int) (f2) (b0) rfl in_J2 tyJ2_ok nmJ2 2 (by decide) q146 (fun _ h9 => h9) rfl (by decide +kernel) rfl rfl (Nat.le_of_ble_eq_true rfl) dJ2_add_2_19 (fun H locs hW => ?_)
    obtain ⟨σ5, hσ5⟩ : ∃ z, z = sset σ1 h (.inr (2, [.int mc, .ref ea, .int (nI (k + 1))])) := ⟨_, rfl⟩
    have hW : Hl g σ5 H locs := by rw [hσ5]; exact hW
    have w5 : σ5 h = some (.inr (2, [.int mc, .ref ea, .int (nI (k + 1))])) := by rw [hσ5]; exact sset_eq
    have f6 : σ5 v = some (.inr (cv, vs)) := by rw [hσ5, sset_ne (hvh)]; exact f3
    have f7 : σ5 ea = some (eR g n (va_up f k (some v))) := by rw [hσ5, sset_ne (sto_ne f2 w1 (by simp))]; exact w1
    subst hQ
    exact s_retv F hW (⟨rfl, ea, IsList.add (n := n) (f := f) (w5) b0 (by rw [hσ5, sset_ne heh, hσ1, sset_eq]) h10 hbe (by omega) hn2 hf, Or.inl rfl, fun x hx hx1 hx2 => by rw [hσ5, sset_ne hx1, hσ1, sset_ne hx2]⟩) ⟨(Nat.le_of_ble_eq_true rfl), (Nat.le_of_ble_eq_true rfl)⟩ dJ2_add_2_22
  · refine lv_aload_n F.x F.cd dJ2_add_2_6 rfl (lv_at hl 0 rfl) ?_
    refine s_callV (As := []) (rest := []) (C := RJ2) (T := TJ2) (N := 3) (n := 0) F hW (k_J2_grow g l σ h ea k n mc f e0 b0 e1 (hE.els c_3 hf) c_3 hn (by omega)) (e0) rfl q976 q978 qs9 q72 q979 rfl (by decide +kernel) rfl ⟨⟨Nat.le_of_ble_eq_true rfl, Nat.le_of_ble_eq_true rfl⟩, ⟨(Nat.le_of_ble_eq_true rfl), (Nat.le_of_ble_eq_true rfl)⟩⟩ (Nat.le_of_ble_eq_true rfl) hl.1 rfl dJ2_add_2_7 cX_no (fun r8 σ8 H locs hp8 hW => ?_)
    obtain ⟨q9, n9, f9, rfl, hq1, hq2, hn91, hn92, hn93, hf9, hs9⟩ := hp8
    rw [hs9] at hW
    refine W.eq (g2 := F0 m_ 10 ls (.ref q9 :: [])) rfl ?_
    obtain ⟨σ8, hσ8⟩ : ∃ z, z = sset (sset σ q9 (eR g n9 f9)) h (.inr (2, [.int mc, .ref q9, .int (nI k)])) := ⟨_, rfl⟩
    rw [← hσ8] at hW
    have hqh : q9 ≠ h := Ne.symm (sto_ne0 hq1 e0)
    have w8 : σ8 h = some (.inr (2, [.int mc, .ref q9, .int (nI k)])) := by rw [hσ8, sset_eq]
    have f8 : σ8 q9 = some (eR g n9 f9) := by rw [hσ8, sset_ne hqh, sset_eq]
    have v8 : σ8 v = some (.inr (cv, vs)) := by rw [hσ8, sset_ne hvh, sset_ne (sto_ne0 hq1 ev)]; exact ev
    refine lv_astore_n (lv' := [(2, .ref q9), (0, .ref h), (1, .ref v), (3, .int (nI k))]) F.x F.cd dJ2_add_2_10 rfl hl (by decide) rfl (fun ls hl => ?_)
    refine lv_aload_n F.x F.cd dJ2_add_2_11 rfl (lv_at hl 0 rfl) ?_
    refine lv_iload_n F.x F.cd dJ2_add_2_12 rfl (lv_at hl 3 rfl) ?_
    refine lv_aload_n F.x F.cd dJ2_add_2_13 rfl (lv_at hl 2 rfl) ?_
    refine n_aast (i := k) F hW (f8) (hq2) (v8) hr hca (by omega) (by omega) dJ2_add_2_14 (fun H locs hW => ?_)
    obtain ⟨σ21, hσ21⟩ : ∃ z, z = sset σ8 q9 (eR g n9 (va_up f9 k (some v))) := ⟨_, rfl⟩
    have hW : Hl g σ21 H locs := by rw [hσ21]; exact hW
    have w21 : σ21 q9 = some (eR g n9 (va_up f9 k (some v))) := by rw [hσ21]; exact sset_eq
    have f22 : σ21 h = some (.inr (2, [.int mc, .ref q9, .int (nI k)])) := by rw [hσ21, sset_ne (sto_ne f8 w8 (by simp))]; exact w8
    have f23 : σ21 v = some (.inr (cv, vs)) := by rw [hσ21, sset_ne (sto_ne f8 v8 (by simp))]; exact v8
    refine lv_aload_n F.x F.cd dJ2_add_2_15 rfl (lv_at hl 1 rfl) ?_
    refine lv_iload_n F.x F.cd dJ2_add_2_16 rfl (lv_at hl 3 rfl) ?_
    refine lv_iconst (v := (nI 1)) F.x F.cd dJ2_add_2_17 (by decide) ?_
    refine a_iadd (v := (nI (k + 1))) F (nI_add _ _) dJ2_add_2_18 ?_
    refine s_put F hW (ci := 2) (C := RJ2) (T := TJ2) (N := 3) (v := .int (nI (k + 1))) (ty := .int) (f22) (b0) rfl in_J2 tyJ2_ok nmJ2 2 (by decide) q146 (fun _ h9 => h9) rfl (by decide +kernel) rfl rfl (Nat.le_of_ble_eq_true rfl) dJ2_add_2_19 (fun H locs hW => ?_)
    obtain ⟨σ25, hσ25⟩ : ∃ z, z = sset σ21 h (.inr (2, [.int mc, .ref q9, .int (nI (k + 1))])) := ⟨_, rfl⟩
    have hW : Hl g σ25 H locs := by rw [hσ25]; exact hW
    have w25 : σ25 h = some (.inr (2, [.int mc, .ref q9, .int (nI (k + 1))])) := by rw [hσ25]; exact sset_eq
    have f26 : σ25 v = some (.inr (cv, vs)) := by rw [hσ25, sset_ne (hvh)]; exact f23
    have f27 : σ25 q9 = some (eR g n9 (va_up f9 k (some v))) := by rw [hσ25, sset_ne (sto_ne f22 w21 (by simp))]; exact w21
    subst hQ
    exact s_retv F hW (⟨rfl, q9, IsList.add (n := n9) (f := f9) (w25) b0 (by rw [hσ25, sset_ne hqh, hσ21, sset_eq]) hn92 hq2 hn91 (by omega) (fun i hi => (hf9 i hi).trans (hf i hi)), Or.inr hq1, fun x hx hx1 hx2 => by rw [hσ25, sset_ne hx1, hσ21, sset_ne (fun q => hx (by rw [q]; exact hq1)), hσ8, sset_ne hx1, sset_ne (fun q => hx (by rw [q]; exact hq1))]⟩) ⟨(Nat.le_of_ble_eq_true rfl), (Nat.le_of_ble_eq_true rfl)⟩ dJ2_add_2_22
set_option maxHeartbeats 4000000 in
theorem k_J2_add (g : Gh) (l : Launch) (σ : Sto) (h ea k : Nat) (ad : Nat → Nat) (v cv : Nat) (vs : List Value) (r : vw_C) (hL : IsList g σ h ea k ad) (ev : σ v = some (.inr (cv, vs))) (hcv : cv ≠ 2) (hr : vCl[cv]? = some r) (hca : Cond.castable r.1 "java/lang/Object" ∈ lw_tbl) (hE : Elm σ k ad) (hk9 : k < 60) : Ct g l yJ2_add cJ2_add 2 (some .boolean) ({ frames := 7, cells := 1, slots := 90, locals := 266 } : Room) [.ref h, .ref v] σ (fun r' σ' => r' = some (.int (nI 1)) ∧ AddP g σ σ' h ea k ad v) (nox) := by
  refine Ct.body (by decide) (Nat.le_of_ble_eq_true rfl) ?_
  intro p_ e_ s_ m_ args_ below_ meth_ c_ ls H locs Q F hW hl hQ
  have hl : lv_has ls 2 [(0, .ref h), (1, .ref v)] := hl
  obtain ⟨mc, n, f, e0, b0, e1, hn, hk, hn2, hf⟩ := hL
  have hn3 : k ≤ 90 := Nat.le_trans hk hn2
  have hvh : v ≠ h := fun q => by subst q; exact hcv (by rw [ev] at e0; cases e0; rfl)
  have heh : ea ≠ h := sto_ne e0 e1 (by simp)
  have hve : v ≠ ea := sto_ne e1 ev (by simp)
  refine lv_aload_n F.x F.cd dJ2_add_0 rfl (lv_at hl 0 rfl) ?_
  refine lv_dup F.x F.cd dJ2_add_1 rfl ?_
  refine s_get F hW (ci := 2) (C := RJ2) (T := TJ2) (N := 3) (v := .int mc) (e0) rfl in_J2 0 (by decide) q150 (fun x hx => u_same (F.ts _ q151) x hx) rfl dJ2_add_2 ?_
  refine lv_iconst (v := (nI 1)) F.x F.cd dJ2_add_5 (by decide) ?_
  refine a_iadd (v := (mc + 1)) F (rfl) dJ2_add_6 ?_
  refine s_put F hW (ci := 2) (C := RJ2) (T := TJ2) (N := 3) (v := .int (mc + 1)) (ty := .int) (e0) (b0) rfl in_J2 tyJ2_ok nmJ2 0 (by decide) q150 (fun x hx => u_same (F.ts _ q151) x hx) rfl (by decide +kernel) rfl rfl (Nat.le_of_ble_eq_true rfl) dJ2_add_7 (fun H locs hW => ?_)
  obtain ⟨σ2, hσ2⟩ : ∃ z, z = sset σ h (.inr (2, [.int (mc + 1), .ref ea, .int (nI k)])) := ⟨_, rfl⟩
  have hW : Hl g σ2 H locs := by rw [hσ2]; exact hW
  have w2 : σ2 h = some (.inr (2, [.int (mc + 1), .ref ea, .int (nI k)])) := by rw [hσ2]; exact sset_eq
  have f3 : σ2 v = some (.inr (cv, vs)) := by rw [hσ2, sset_ne (hvh)]; exact ev
  have f4 : σ2 ea = some (eR g n f) := by rw [hσ2, sset_ne (sto_ne e0 e1 (by simp))]; exact e1
  refine lv_aload_n F.x F.cd dJ2_add_10 rfl (lv_at hl 0 rfl) ?_
  refine lv_aload_n F.x F.cd dJ2_add_11 rfl (lv_at hl 1 rfl) ?_
  refine lv_aload_n F.x F.cd dJ2_add_12 rfl (lv_at hl 0 rfl) ?_
  refine s_get F hW (ci := 2) (C := RJ2) (T := TJ2) (N := 3) (v := .ref ea) (w2) rfl in_J2 1 (by decide) q145 (fun _ h9 => h9) rfl dJ2_add_13 ?_
  refine lv_aload_n F.x F.cd dJ2_add_16 rfl (lv_at hl 0 rfl) ?_
  refine s_get F hW (ci := 2) (C := RJ2) (T := TJ2) (N := 3) (v := .int (nI k)) (w2) rfl in_J2 2 (by decide) q146 (fun _ h9 => h9) rfl dJ2_add_17 ?_
  refine s_callV (As := [.ref v, .ref ea, .int (nI k)]) (rest := []) (C := RJ2) (T := TJ2) (N := 3) (n := 3) F hW (k_J2_add_2 g l σ2 h ea k ad v cv vs r n f (mc + 1) w2 b0 f4 hn hk hn2 hf f3 hcv hr hca (by rw [hσ2]; exact hE.setO e0) hk9) (w2) rfl q972 q974 qs8 q72 q975 rfl (by decide +kernel) rfl ⟨⟨Nat.le_of_ble_eq_true rfl, Nat.le_of_ble_eq_true rfl⟩, ⟨(Nat.le_of_ble_eq_true rfl), (Nat.le_of_ble_eq_true rfl)⟩⟩ (Nat.le_of_ble_eq_true rfl) hl.1 rfl dJ2_add_20 cX_no (fun r5 σ5 H locs hp5 hW => ?_)
  obtain ⟨rfl, hp9⟩ := hp5
  refine W.eq (g2 := F0 m_ 23 ls ([])) rfl ?_
  refine lv_iconst (v := (nI 1)) F.x F.cd dJ2_add_23 (by decide) ?_
  subst hQ
  exact s_reti (v := (nI 1)) F hW (by decide) (⟨rfl, AddP.pre (by rw [← hσ2]; exact hp9)⟩) ⟨(Nat.le_of_ble_eq_true rfl), (Nat.le_of_ble_eq_true rfl)⟩ dJ2_add_24
