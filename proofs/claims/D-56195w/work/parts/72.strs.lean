/-! ===== texts ===== -/
set_option maxRecDepth 100000
/-- a text's hash may have been noted -/
def Hs (g : Gh) (σ σ' : Sto) (a : Nat) : Prop := σ' = σ ∨ (gB g ≤ a ∧ ∃ (vs vs' : List Value), σ a = some (.inr (6, vs)) ∧ σ' = sset σ a (.inr (6, vs')))
theorem bts_inj {L M : List Nat} (hL : ∀ c ∈ L, c < 128) (hM : ∀ c ∈ M, c < 128) (h : L.length = M.length) (hb : bts L = bts M) : L = M :=
  str_eq h (fun j _ => by
    have h1 : nI (L.getD j 0) = nI (M.getD j 0) := congrFun hb j
    have h2 := bts_lt hL j
    have h3 := bts_lt hM j
    exact (nI_eq (by omega) (by omega)).mp h1)
theorem isstr_uniq {g : Gh} {σ : Sto} {a : Nat} {L M : List Nat} (h1 : IsStr g σ a L) (h2 : IsStr g σ a M) : L = M := by
  obtain ⟨v, h, z, e0, hh, ev, hL⟩ := h1
  obtain ⟨v2, h2, z2, e02, hh2, ev2, hL2⟩ := h2
  have e := e0.symm.trans e02
  simp only [Option.some.injEq, Sum.inr.injEq, Prod.mk.injEq, List.cons.injEq, Value.ref.injEq, Value.int.injEq, and_true, true_and] at e
  obtain ⟨rfl, rfl, rfl⟩ := e
  have e2 := ev.symm.trans ev2
  simp only [Option.some.injEq, Sum.inl.injEq, Prod.mk.injEq, true_and] at e2
  exact bts_inj hL hL2 e2.1 e2.2
theorem hash_ne {L : List Nat} {h z : Int32} (hh : hashOk L h z) (h0 : ¬ h = 0) : some (Value.int h) = some (Value.int (hashN L)) := by
  rcases hh with ⟨e, -⟩ | ⟨e, -⟩ | ⟨e, -⟩
  · exact absurd e h0
  · rw [e]
  · exact absurd e h0
theorem hash_z {L : List Nat} {h z : Int32} (hh : hashOk L h z) (h0 : h = 0) (hz : ¬ z = 0) : some (Value.int h) = some (Value.int (hashN L)) := by
  rcases hh with ⟨-, e⟩ | ⟨-, e, -⟩ | ⟨e, e2, -⟩
  · exact absurd e hz
  · exact absurd h0 e
  · rw [e, e2]
theorem strC_warm {g : Gh} {σ : Sto} {a v : Nat} {L : List Nat} {h z : Int32} (hc : IsStrC g σ a L) (e0 : σ a = some (.inr (6, [.ref v, .int 0, .int h, .int z]))) (h0 : h = 0) (hz : z = 0) : False := by
  obtain ⟨v2, h2, z2, e02, hh, -, -⟩ := hc
  have e := e0.symm.trans e02
  simp only [Option.some.injEq, Sum.inr.injEq, Prod.mk.injEq, List.cons.injEq, Value.ref.injEq, Value.int.injEq, and_true, true_and] at e
  obtain ⟨-, rfl, rfl⟩ := e
  rcases hh with ⟨-, e, -⟩ | ⟨-, -, e⟩
  · exact e h0
  · rw [hz] at e
    exact absurd e (by decide)
set_option maxHeartbeats 4000000 in
theorem k_J7_coder (g : Gh) (l : Launch) (σ : Sto) (a : Nat) (L : List Nat) (hs : IsStr g σ a L) : Ct g l yJ7_coder cJ7_coder 1 (some .byte) ({ frames := 0, cells := 0, slots := 0, locals := 0 } : Room) [.ref a] σ (fun r σ' => r = some (.int (nI 0)) ∧ σ' = σ) (nox) := by
  refine Ct.body (by decide) (Nat.le_of_ble_eq_true rfl) ?_
  intro p_ e_ s_ m_ args_ below_ meth_ c_ ls H locs Q F hW hl hQ
  have hl : lv_has ls 1 [(0, .ref a)] := hl
  obtain ⟨v, h, zz, e0, hh, ev, hL⟩ := id hs
  refine s_gets F hW (v := .int (nI 1)) (List.mem_of_getElem? (i := 1) rfl) q497 (fun _ h9 => h9) dJ7_coder_0 ?_
  refine n_if_eq (a := 1) (tgt := 13) F (by omega) dJ7_coder_3 (by decide) (fun c_3 => absurd c_3 (by decide)) (fun c_3 => ?_)
  refine lv_aload_n F.x F.cd dJ7_coder_6 rfl (lv_at hl 0 rfl) ?_
  refine s_get F hW (ci := 6) (C := RJ7) (T := TJ7) (N := 4) (v := .int (nI 0)) (e0) rfl in_J7 1 (by decide) q648 (fun _ h9 => h9) rfl dJ7_coder_7 ?_
  refine lv_goto (tgt := 14) F.x F.cd dJ7_coder_10 (by decide) ?_
  subst hQ
  exact s_reti (v := (nI 0)) F hW (by decide) (⟨rfl, rfl⟩) ⟨(Nat.le_of_ble_eq_true rfl), (Nat.le_of_ble_eq_true rfl)⟩ dJ7_coder_14
set_option maxHeartbeats 4000000 in
theorem k_J7_isLatin1 (g : Gh) (l : Launch) (σ : Sto) (a : Nat) (L : List Nat) (hs : IsStr g σ a L) : Ct g l yJ7_isLatin1 cJ7_isLatin1 1 (some .boolean) ({ frames := 0, cells := 0, slots := 0, locals := 0 } : Room) [.ref a] σ (fun r σ' => r = some (.int (nI 1)) ∧ σ' = σ) (nox) := by
  refine Ct.body (by decide) (Nat.le_of_ble_eq_true rfl) ?_
  intro p_ e_ s_ m_ args_ below_ meth_ c_ ls H locs Q F hW hl hQ
  have hl : lv_has ls 1 [(0, .ref a)] := hl
  obtain ⟨v, h, zz, e0, hh, ev, hL⟩ := id hs
  refine s_gets F hW (v := .int (nI 1)) (List.mem_of_getElem? (i := 1) rfl) q497 (fun _ h9 => h9) dJ7_isLatin1_0 ?_
  refine n_if_eq (a := 1) (tgt := 17) F (by omega) dJ7_isLatin1_3 (by decide) (fun c_3 => absurd c_3 (by decide)) (fun c_3 => ?_)
  refine lv_aload_n F.x F.cd dJ7_isLatin1_6 rfl (lv_at hl 0 rfl) ?_
  refine s_get F hW (ci := 6) (C := RJ7) (T := TJ7) (N := 4) (v := .int (nI 0)) (e0) rfl in_J7 1 (by decide) q648 (fun _ h9 => h9) rfl dJ7_isLatin1_7 ?_
  refine n_if_ne (a := 0) (tgt := 17) F (by omega) dJ7_isLatin1_10 (by decide) (fun c_10 => absurd (by decide) c_10) (fun c_10 => ?_)
  refine lv_iconst (v := (nI 1)) F.x F.cd dJ7_isLatin1_13 (by decide) ?_
  refine lv_goto (tgt := 18) F.x F.cd dJ7_isLatin1_14 (by decide) ?_
  subst hQ
  exact s_reti (v := (nI 1)) F hW (by decide) (⟨rfl, rfl⟩) ⟨(Nat.le_of_ble_eq_true rfl), (Nat.le_of_ble_eq_true rfl)⟩ dJ7_isLatin1_18
set_option maxHeartbeats 4000000 in
theorem k_J7_length (g : Gh) (l : Launch) (σ : Sto) (a : Nat) (L : List Nat) (hs : IsStr g σ a L) : Ct g l yJ7_length cJ7_length 1 (some .int) ({ frames := 1, cells := 0, slots := 0, locals := 20 } : Room) [.ref a] σ (fun r σ' => r = some (.int (nI L.length)) ∧ σ' = σ) (nox) := by
  refine Ct.body (by decide) (Nat.le_of_ble_eq_true rfl) ?_
  intro p_ e_ s_ m_ args_ below_ meth_ c_ ls H locs Q F hW hl hQ
  have hl : lv_has ls 1 [(0, .ref a)] := hl
  obtain ⟨v, h, zz, e0, hh, ev, hL⟩ := id hs
  refine lv_aload_n F.x F.cd dJ7_length_0 rfl (lv_at hl 0 rfl) ?_
  refine s_get F hW (ci := 6) (C := RJ7) (T := TJ7) (N := 4) (v := .ref v) (e0) rfl in_J7 0 (by decide) q647 (fun _ h9 => h9) rfl dJ7_length_1 ?_
  refine s_alen F hW (ev) 1 rfl (v := nI L.length) rfl dJ7_length_4 ?_
  refine lv_aload_n F.x F.cd dJ7_length_5 rfl (lv_at hl 0 rfl) ?_
  refine s_callV (As := []) (rest := [.int (nI L.length)]) (C := RJ7) (T := TJ7) (N := 4) (n := 0) F hW (k_J7_coder g l σ a L  hs ) (e0) rfl q493 q494 q495 q77 q496 rfl (by decide +kernel) rfl ⟨⟨Nat.le_of_ble_eq_true rfl, Nat.le_of_ble_eq_true rfl⟩, ⟨(Nat.le_of_ble_eq_true rfl), (Nat.le_of_ble_eq_true rfl)⟩⟩ (Nat.le_of_ble_eq_true rfl) hl.1 rfl dJ7_length_6 cX_no (fun r1 σ1 H locs hp1 hW => ?_)
  obtain ⟨rfl, hs1⟩ := hp1
  rw [hs1] at hW
  refine W.eq (g2 := F0 m_ 9 ls (.int (nI 0) :: .int (nI L.length) :: [])) rfl ?_
  refine a_ishr (v := (nI L.length)) F (ishr0 _) dJ7_length_9 ?_
  subst hQ
  exact s_reti (v := (nI L.length)) F hW rfl (⟨rfl, rfl⟩) ⟨(Nat.le_of_ble_eq_true rfl), (Nat.le_of_ble_eq_true rfl)⟩ dJ7_length_10
theorem k_J10_checkIndex_V (g : Gh) (l : Launch) (σ : Sto) (i n : Nat) (u : RefV) (hi : i < n) (hn : n < 2 ^ 31) : Ct g l yJ10_checkIndex cJ10_checkIndex 3 (some .int) ({ frames := 0, cells := 0, slots := 0, locals := 0 } : Room) [.int (nI i), .int (nI n), u.v] σ (fun r σ' => r = some (.int (nI i)) ∧ σ' = σ) (nox) := by
  obtain ⟨w, hw⟩ := u
  cases w <;> first | exact k_J10_checkIndex_N g l σ i n hi hn | exact k_J10_checkIndex_R g l σ i n _ hi hn | cases hw
set_option maxHeartbeats 4000000 in
theorem k_J7_checkIndex (g : Gh) (l : Launch) (σ : Sto) (i n : Nat) (hi : i < n) (hn : n < 2 ^ 31) : Ct g l yJ7_checkIndex cJ7_checkIndex 2 none ({ frames := 1, cells := 0, slots := 0, locals := 22 } : Room) [.int (nI i), .int (nI n)] σ (fun r σ' => r = none ∧ σ' = σ) (nox) := by
  refine Ct.body (by decide) (Nat.le_of_ble_eq_true rfl) ?_
  intro p_ e_ s_ m_ args_ below_ meth_ c_ ls H locs Q F hW hl hQ
  have hl : lv_has ls 2 [(0, .int (nI i)), (1, .int (nI n))] := hl
  refine lv_iload_n F.x F.cd dJ7_checkIndex_0 rfl (lv_at hl 0 rfl) ?_
  refine lv_iload_n F.x F.cd dJ7_checkIndex_1 rfl (lv_at hl 1 rfl) ?_
  obtain ⟨us, hus⟩ := sio_ex F
  refine s_getsZ F hW hus q475 dJ7_checkIndex_2 ?_
  refine s_callS (As := [.int (nI i), .int (nI n), us.v]) (rest := []) (n := 3) F hW (k_J10_checkIndex_V g l σ i n us (by omega) (by omega)) q1851 q337 q81 q338 (by decide +kernel) rfl ⟨⟨Nat.le_of_ble_eq_true rfl, Nat.le_of_ble_eq_true rfl⟩, ⟨(Nat.le_of_ble_eq_true rfl), (Nat.le_of_ble_eq_true rfl)⟩⟩ (Nat.le_of_ble_eq_true rfl) hl.1 rfl dJ7_checkIndex_5 cX_no (fun r1 σ1 H locs hp1 hW => ?_)
  obtain ⟨rfl, hs1⟩ := hp1
  rw [hs1] at hW
  refine W.eq (g2 := F0 m_ 8 ls (.int (nI i) :: [])) rfl ?_
  refine lv_pop F.x F.cd dJ7_checkIndex_8 rfl ?_
  subst hQ
  exact s_retv F hW (⟨rfl, rfl⟩) ⟨(Nat.le_of_ble_eq_true rfl), (Nat.le_of_ble_eq_true rfl)⟩ dJ7_checkIndex_9
set_option maxHeartbeats 4000000 in
theorem k_J10_checkFromToIndex_N (g : Gh) (l : Launch) (σ : Sto) (i j n : Nat) (hi : i ≤ j) (hj : j ≤ n) (hn : n < 2 ^ 31) : Ct g l yJ10_checkFromToIndex cJ10_checkFromToIndex 4 (some .int) ({ frames := 0, cells := 0, slots := 0, locals := 0 } : Room) [.int (nI i), .int (nI j), .int (nI n), .null] σ (fun r σ' => r = some (.int (nI i)) ∧ σ' = σ) (nox) := by
  refine Ct.body (by decide) (Nat.le_of_ble_eq_true rfl) ?_
  intro p_ e_ s_ m_ args_ below_ meth_ c_ ls H locs Q F hW hl hQ
  have hl : lv_has ls 4 [(0, .int (nI i)), (1, .int (nI j)), (2, .int (nI n)), (3, .null)] := hl
  refine lv_iload_n F.x F.cd dJ10_checkFromToIndex_0 rfl (lv_at hl 0 rfl) ?_
  refine n_if_lt (a := i) (tgt := 14) F (by omega) dJ10_checkFromToIndex_1 (by decide) ?_
  refine lv_iload_n F.x F.cd dJ10_checkFromToIndex_4 rfl (lv_at hl 0 rfl) ?_
  refine lv_iload_n F.x F.cd dJ10_checkFromToIndex_5 rfl (lv_at hl 1 rfl) ?_
  refine n_icmp_gt (a := i) (b := j) (tgt := 14) F (by omega) (by omega) dJ10_checkFromToIndex_6 (by decide) (fun c_6 => ?_) (fun c_6 => ?_)
  · exact absurd c_6 (by omega)
  · refine lv_iload_n F.x F.cd dJ10_checkFromToIndex_9 rfl (lv_at hl 1 rfl) ?_
    refine lv_iload_n F.x F.cd dJ10_checkFromToIndex_10 rfl (lv_at hl 2 rfl) ?_
    refine n_icmp_le (a := j) (b := n) (tgt := 22) F (by omega) (by omega) dJ10_checkFromToIndex_11 (by decide) (fun c_11 => ?_) (fun c_11 => ?_)
    · refine lv_iload_n F.x F.cd dJ10_checkFromToIndex_22 rfl (lv_at hl 0 rfl) ?_
      subst hQ
      exact s_reti (v := (nI i)) F hW rfl (⟨rfl, rfl⟩) ⟨(Nat.le_of_ble_eq_true rfl), (Nat.le_of_ble_eq_true rfl)⟩ dJ10_checkFromToIndex_23
    · exact absurd c_11 (by omega)
set_option maxHeartbeats 4000000 in
theorem k_J10_checkFromToIndex_R (g : Gh) (l : Launch) (σ : Sto) (i j n : Nat) (o : Nat) (hi : i ≤ j) (hj : j ≤ n) (hn : n < 2 ^ 31) : Ct g l yJ10_checkFromToIndex cJ10_checkFromToIndex 4 (some .int) ({ frames := 0, cells := 0, slots := 0, locals := 0 } : Room) [.int (nI i), .int (nI j), .int (nI n), .ref o] σ (fun r σ' => r = some (.int (nI i)) ∧ σ' = σ) (nox) := by
  refine Ct.body (by decide) (Nat.le_of_ble_eq_true rfl) ?_
  intro p_ e_ s_ m_ args_ below_ meth_ c_ ls H locs Q F hW hl hQ
  have hl : lv_has ls 4 [(0, .int (nI i)), (1, .int (nI j)), (2, .int (nI n)), (3, .ref o)] := hl
  refine lv_iload_n F.x F.cd dJ10_checkFromToIndex_0 rfl (lv_at hl 0 rfl) ?_
  refine n_if_lt (a := i) (tgt := 14) F (by omega) dJ10_checkFromToIndex_1 (by decide) ?_
  refine lv_iload_n F.x F.cd dJ10_checkFromToIndex_4 rfl (lv_at hl 0 rfl) ?_
  refine lv_iload_n F.x F.cd dJ10_checkFromToIndex_5 rfl (lv_at hl 1 rfl) ?_
  refine n_icmp_gt (a := i) (b := j) (tgt := 14) F (by omega) (by omega) dJ10_checkFromToIndex_6 (by decide) (fun c_6 => ?_) (fun c_6 => ?_)
  · exact absurd c_6 (by omega)
  · refine lv_iload_n F.x F.cd dJ10_checkFromToIndex_9 rfl (lv_at hl 1 rfl) ?_
    refine lv_iload_n F.x F.cd dJ10_checkFromToIndex_10 rfl (lv_at hl 2 rfl) ?_
    refine n_icmp_le (a := j) (b := n) (tgt := 22) F (by omega) (by omega) dJ10_checkFromToIndex_11 (by decide) (fun c_11 => ?_) (fun c_11 => ?_)
    · refine lv_iload_n F.x F.cd dJ10_checkFromToIndex_22 rfl (lv_at hl 0 rfl) ?_
      subst hQ
      exact s_reti (v := (nI i)) F hW rfl (⟨rfl, rfl⟩) ⟨(Nat.le_of_ble_eq_true rfl), (Nat.le_of_ble_eq_true rfl)⟩ dJ10_checkFromToIndex_23
    · exact absurd c_11 (by omega)
theorem k_J10_checkFromToIndex_V (g : Gh) (l : Launch) (σ : Sto) (i j n : Nat) (u : RefV) (hi : i ≤ j) (hj : j ≤ n) (hn : n < 2 ^ 31) : Ct g l yJ10_checkFromToIndex cJ10_checkFromToIndex 4 (some .int) ({ frames := 0, cells := 0, slots := 0, locals := 0 } : Room) [.int (nI i), .int (nI j), .int (nI n), u.v] σ (fun r σ' => r = some (.int (nI i)) ∧ σ' = σ) (nox) := by
  obtain ⟨w, hw⟩ := u
  cases w <;> first | exact k_J10_checkFromToIndex_N g l σ i j n hi hj hn | exact k_J10_checkFromToIndex_R g l σ i j n _ hi hj hn | cases hw
set_option maxHeartbeats 4000000 in
theorem k_J7_checkBoundsBeginEnd (g : Gh) (l : Launch) (σ : Sto) (i j n : Nat) (hi : i ≤ j) (hj : j ≤ n) (hn : n < 2 ^ 31) : Ct g l yJ7_checkBoundsBeginEnd cJ7_checkBoundsBeginEnd 3 none ({ frames := 1, cells := 0, slots := 0, locals := 23 } : Room) [.int (nI i), .int (nI j), .int (nI n)] σ (fun r σ' => r = none ∧ σ' = σ) (nox) := by
  refine Ct.body (by decide) (Nat.le_of_ble_eq_true rfl) ?_
  intro p_ e_ s_ m_ args_ below_ meth_ c_ ls H locs Q F hW hl hQ
  have hl : lv_has ls 3 [(0, .int (nI i)), (1, .int (nI j)), (2, .int (nI n))] := hl
  refine lv_iload_n F.x F.cd dJ7_checkBoundsBeginEnd_0 rfl (lv_at hl 0 rfl) ?_
  refine lv_iload_n F.x F.cd dJ7_checkBoundsBeginEnd_1 rfl (lv_at hl 1 rfl) ?_
  refine lv_iload_n F.x F.cd dJ7_checkBoundsBeginEnd_2 rfl (lv_at hl 2 rfl) ?_
  obtain ⟨us, hus⟩ := sio_ex F
  refine s_getsZ F hW hus q475 dJ7_checkBoundsBeginEnd_3 ?_
  refine s_callS (As := [.int (nI i), .int (nI j), .int (nI n), us.v]) (rest := []) (n := 4) F hW (k_J10_checkFromToIndex_V g l σ i j n us (by omega) (by omega) (by omega)) q477 q478 q81 q479 (by decide +kernel) rfl ⟨⟨Nat.le_of_ble_eq_true rfl, Nat.le_of_ble_eq_true rfl⟩, ⟨(Nat.le_of_ble_eq_true rfl), (Nat.le_of_ble_eq_true rfl)⟩⟩ (Nat.le_of_ble_eq_true rfl) hl.1 rfl dJ7_checkBoundsBeginEnd_6 cX_no (fun r1 σ1 H locs hp1 hW => ?_)
  obtain ⟨rfl, hs1⟩ := hp1
  rw [hs1] at hW
  refine W.eq (g2 := F0 m_ 9 ls (.int (nI i) :: [])) rfl ?_
  refine lv_pop F.x F.cd dJ7_checkBoundsBeginEnd_9 rfl ?_
  subst hQ
  exact s_retv F hW (⟨rfl, rfl⟩) ⟨(Nat.le_of_ble_eq_true rfl), (Nat.le_of_ble_eq_true rfl)⟩ dJ7_checkBoundsBeginEnd_10
set_option maxHeartbeats 4000000 in
theorem k_J18_charAt (g : Gh) (l : Launch) (σ : Sto) (v : Nat) (L : List Nat) (i : Nat) (ev : σ v = some (eI g 1 L.length (bts L))) (hL : ∀ c ∈ L, c < 128) (hn : L.length < 1000) (hi : i < L.length) : Ct g l yJ18_charAt cJ18_charAt 2 (some .char) ({ frames := 2, cells := 0, slots := 0, locals := 43 } : Room) [.ref v, .int (nI i)] σ (fun r σ' => r = some (.int (nI (L.getD i 0))) ∧ σ' = σ) (nox) := by
  refine Ct.body (by decide) (Nat.le_of_ble_eq_true rfl) ?_
  intro p_ e_ s_ m_ args_ below_ meth_ c_ ls H locs Q F hW hl hQ
  have hl : lv_has ls 2 [(0, .ref v), (1, .int (nI i))] := hl
  have hb := bts_lt hL i
  refine lv_iload_n F.x F.cd dJ18_charAt_0 rfl (lv_at hl 1 rfl) ?_
  refine lv_aload_n F.x F.cd dJ18_charAt_1 rfl (lv_at hl 0 rfl) ?_
  refine s_alen F hW (ev) 1 rfl (v := nI L.length) rfl dJ18_charAt_2 ?_
  refine s_callS (As := [.int (nI i), .int (nI L.length)]) (rest := []) (n := 2) F hW (k_J7_checkIndex g l σ i L.length (by omega) (by omega)) q1899 q1849 q77 q1850 (by decide +kernel) rfl ⟨⟨Nat.le_of_ble_eq_true rfl, Nat.le_of_ble_eq_true rfl⟩, ⟨(Nat.le_of_ble_eq_true rfl), (Nat.le_of_ble_eq_true rfl)⟩⟩ (Nat.le_of_ble_eq_true rfl) hl.1 rfl dJ18_charAt_3 cX_no (fun r1 σ1 H locs hp1 hW => ?_)
  obtain ⟨rfl, hs1⟩ := hp1
  rw [hs1] at hW
  refine W.eq (g2 := F0 m_ 6 ls ([])) rfl ?_
  refine lv_aload_n F.x F.cd dJ18_charAt_6 rfl (lv_at hl 0 rfl) ?_
  refine lv_iload_n F.x F.cd dJ18_charAt_7 rfl (lv_at hl 1 rfl) ?_
  refine n_bald (i := i) (n := L.length) (f := (bts L)) (x := (nI (L.getD i 0))) F hW (ev) (by omega) (by omega) (rfl) dJ18_charAt_8 ?_
  refine lv_sipush (v := (nI 255)) F.x F.cd dJ18_charAt_9 (by decide) ?_
  refine a_iand (v := (nI (L.getD i 0))) F (and255 _ (by omega)) dJ18_charAt_12 ?_
  refine lv_i2c (v := (nI (L.getD i 0))) F.x F.cd dJ18_charAt_13 (i2c_nI _ (by omega)) ?_
  subst hQ
  exact s_reti (v := (nI (L.getD i 0))) F hW (nar_c (by omega)) (⟨rfl, rfl⟩) ⟨(Nat.le_of_ble_eq_true rfl), (Nat.le_of_ble_eq_true rfl)⟩ dJ18_charAt_14
set_option maxHeartbeats 4000000 in
theorem k_J7_charAt (g : Gh) (l : Launch) (σ : Sto) (a : Nat) (L : List Nat) (i : Nat) (hs : IsStr g σ a L) (hn : L.length < 1000) (hi : i < L.length) : Ct g l yJ7_charAt cJ7_charAt 2 (some .char) ({ frames := 3, cells := 0, slots := 0, locals := 64 } : Room) [.ref a, .int (nI i)] σ (fun r σ' => r = some (.int (nI (L.getD i 0))) ∧ σ' = σ) (nox) := by
  refine Ct.body (by decide) (Nat.le_of_ble_eq_true rfl) ?_
  intro p_ e_ s_ m_ args_ below_ meth_ c_ ls H locs Q F hW hl hQ
  have hl : lv_has ls 2 [(0, .ref a), (1, .int (nI i))] := hl
  obtain ⟨v, h, zz, e0, hh, ev, hL⟩ := id hs
  have hb := bts_lt hL i
  refine lv_aload_n F.x F.cd dJ7_charAt_0 rfl (lv_at hl 0 rfl) ?_
  refine s_callV (As := []) (rest := []) (C := RJ7) (T := TJ7) (N := 4) (n := 0) F hW (k_J7_isLatin1 g l σ a L  hs ) (e0) rfl q1126 q1127 q1128 q77 q1129 rfl (by decide +kernel) rfl ⟨⟨Nat.le_of_ble_eq_true rfl, Nat.le_of_ble_eq_true rfl⟩, ⟨(Nat.le_of_ble_eq_true rfl), (Nat.le_of_ble_eq_true rfl)⟩⟩ (Nat.le_of_ble_eq_true rfl) hl.1 rfl dJ7_charAt_1 cX_no (fun r1 σ1 H locs hp1 hW => ?_)
  obtain ⟨rfl, hs1⟩ := hp1
  rw [hs1] at hW
  refine W.eq (g2 := F0 m_ 4 ls (.int (nI 1) :: [])) rfl ?_
  refine n_if_eq (a := 1) (tgt := 16) F (by omega) dJ7_charAt_4 (by decide) (fun c_4 => absurd c_4 (by decide)) (fun c_4 => ?_)
  refine lv_aload_n F.x F.cd dJ7_charAt_7 rfl (lv_at hl 0 rfl) ?_
  refine s_get F hW (ci := 6) (C := RJ7) (T := TJ7) (N := 4) (v := .ref v) (e0) rfl in_J7 0 (by decide) q647 (fun _ h9 => h9) rfl dJ7_charAt_8 ?_
  refine lv_iload_n F.x F.cd dJ7_charAt_11 rfl (lv_at hl 1 rfl) ?_
  refine s_callS (As := [.ref v, .int (nI i)]) (rest := []) (n := 2) F hW (k_J18_charAt g l σ v L i (ev) hL (by omega) (by omega)) q1896 q1897 q90 q1898 (by decide +kernel) rfl ⟨⟨Nat.le_of_ble_eq_true rfl, Nat.le_of_ble_eq_true rfl⟩, ⟨(Nat.le_of_ble_eq_true rfl), (Nat.le_of_ble_eq_true rfl)⟩⟩ (Nat.le_of_ble_eq_true rfl) hl.1 rfl dJ7_charAt_12 cX_no (fun r2 σ2 H locs hp2 hW => ?_)
  obtain ⟨rfl, hs2⟩ := hp2
  rw [hs2] at hW
  refine W.eq (g2 := F0 m_ 15 ls (.int (nI (L.getD i 0)) :: [])) rfl ?_
  subst hQ
  exact s_reti (v := (nI (L.getD i 0))) F hW (nar_c (by omega)) (⟨rfl, rfl⟩) ⟨(Nat.le_of_ble_eq_true rfl), (Nat.le_of_ble_eq_true rfl)⟩ dJ7_charAt_15
set_option maxHeartbeats 4000000 in
theorem k_J18_canEncode_2 (g : Gh) (l : Launch) (σ : Sto) (c : Nat) (hc : c < 256) : Ct g l yJ18_canEncode_2 cJ18_canEncode_2 1 (some .boolean) ({ frames := 0, cells := 0, slots := 0, locals := 0 } : Room) [.int (nI c)] σ (fun r σ' => r = some (.int (nI 1)) ∧ σ' = σ) (nox) := by
  refine Ct.body (by decide) (Nat.le_of_ble_eq_true rfl) ?_
  intro p_ e_ s_ m_ args_ below_ meth_ c_ ls H locs Q F hW hl hQ
  have hl : lv_has ls 1 [(0, .int (nI c))] := hl
  refine lv_iload_n F.x F.cd dJ18_canEncode_2_0 rfl (lv_at hl 0 rfl) ?_
  refine n_if_lt (a := c) (tgt := 15) F (by omega) dJ18_canEncode_2_1 (by decide) ?_
  refine lv_iload_n F.x F.cd dJ18_canEncode_2_4 rfl (lv_at hl 0 rfl) ?_
  refine lv_sipush (v := (nI 255)) F.x F.cd dJ18_canEncode_2_5 (by decide) ?_
  refine n_icmp_gt (a := c) (b := 255) (tgt := 15) F (by omega) (by omega) dJ18_canEncode_2_8 (by decide) (fun c_8 => ?_) (fun c_8 => ?_)
  · exact absurd c_8 (by omega)
  · refine lv_iconst (v := (nI 1)) F.x F.cd dJ18_canEncode_2_11 (by decide) ?_
    refine lv_goto (tgt := 16) F.x F.cd dJ18_canEncode_2_12 (by decide) ?_
    subst hQ
    exact s_reti (v := (nI 1)) F hW (by decide) (⟨rfl, rfl⟩) ⟨(Nat.le_of_ble_eq_true rfl), (Nat.le_of_ble_eq_true rfl)⟩ dJ18_canEncode_2_16
set_option maxHeartbeats 4000000 in
theorem k_J18_canEncode (g : Gh) (l : Launch) (σ : Sto) (c : Nat) (hc : c < 256) : Ct g l yJ18_canEncode cJ18_canEncode 1 (some .boolean) ({ frames := 0, cells := 0, slots := 0, locals := 0 } : Room) [.int (nI c)] σ (fun r σ' => r = some (.int (nI 1)) ∧ σ' = σ) (nox) := by
  refine Ct.body (by decide) (Nat.le_of_ble_eq_true rfl) ?_
  intro p_ e_ s_ m_ args_ below_ meth_ c_ ls H locs Q F hW hl hQ
  have hl : lv_has ls 1 [(0, .int (nI c))] := hl
  refine lv_iload_n F.x F.cd dJ18_canEncode_0 rfl (lv_at hl 0 rfl) ?_
  refine lv_sipush (v := (nI 255)) F.x F.cd dJ18_canEncode_1 (by decide) ?_
  refine n_icmp_gt (a := c) (b := 255) (tgt := 11) F (by omega) (by omega) dJ18_canEncode_4 (by decide) (fun c_4 => ?_) (fun c_4 => ?_)
  · exact absurd c_4 (by omega)
  · refine lv_iconst (v := (nI 1)) F.x F.cd dJ18_canEncode_7 (by decide) ?_
    refine lv_goto (tgt := 12) F.x F.cd dJ18_canEncode_8 (by decide) ?_
    subst hQ
    exact s_reti (v := (nI 1)) F hW (by decide) (⟨rfl, rfl⟩) ⟨(Nat.le_of_ble_eq_true rfl), (Nat.le_of_ble_eq_true rfl)⟩ dJ18_canEncode_12
set_option maxHeartbeats 4000000 in
theorem k_J18_indexOfChar (g : Gh) (l : Launch) (σ : Sto) (v : Nat) (L : List Nat) (c i : Nat) (ev : σ v = some (eI g 1 L.length (bts L))) (hL : ∀ c ∈ L, c < 128) (hn : L.length < 1000) (hc : c < 128) (hi : i < L.length) : Ct g l yJ18_indexOfChar cJ18_indexOfChar 6 (some .int) ({ frames := 0, cells := 0, slots := 0, locals := 0 } : Room) [.ref v, .int (nI c), .int (nI i), .int (nI L.length)] σ (fun r σ' => r = some (.int (ixF L c i (L.length - i))) ∧ σ' = σ) (nox) := by
  refine Ct.body (by decide) (Nat.le_of_ble_eq_true rfl) ?_
  intro p_ e_ s_ m_ args_ below_ meth_ c_ ls H locs Q F hW hl hQ
  have hl : lv_has ls 6 [(0, .ref v), (1, .int (nI c)), (2, .int (nI i)), (3, .int (nI L.length))] := hl
  refine lv_iload_n F.x F.cd dJ18_indexOfChar_0 rfl (lv_at hl 1 rfl) ?_
  refine lv_i2b (v := (nI c)) F.x F.cd dJ18_indexOfChar_1 (i2b_nI _ (by omega)) ?_
  refine lv_istore (lv' := [(4, .int (nI c)), (0, .ref v), (1, .int (nI c)), (2, .int (nI i)), (3, .int (nI L.length))]) F.x F.cd dJ18_indexOfChar_2 hl (by decide) rfl (fun ls hl => ?_)
  refine lv_iload_n F.x F.cd dJ18_indexOfChar_4 rfl (lv_at hl 3 rfl) ?_
  refine lv_istore (lv' := [(5, .int (nI i)), (4, .int (nI c)), (0, .ref v), (1, .int (nI c)), (2, .int (nI i)), (3, .int (nI L.length))]) F.x F.cd dJ18_indexOfChar_5 hl (by decide) rfl (fun ls hl => ?_)
  have loop7 : ∀ (n : Nat) (k : Nat), k + n = L.length → ixF L c k n = ixF L c i (L.length - i) → ∀ (H : Heap) (locs : List Loc) (ls : Array Slot), Hl g σ H locs → lv_has ls 6 [(0, .ref v), (1, .int (nI c)), (2, .int (nI i)), (3, .int (nI L.length)), (4, .int (nI c)), (5, .int (nI k))] → W p_ l e_ ({ frames := 0, cells := 0, slots := 0, locals := 0 } : Room) s_ m_ args_ below_ meth_ c_ H locs 0 0 Q (F0 m_ 7 ls ([])) := by
    intro n
    induction n with
    | zero =>
      intro k hkn hfd H locs ls hW hl
      refine lv_iload F.x F.cd dJ18_indexOfChar_7 (lv_at hl 5 rfl) ?_
      refine lv_iload_n F.x F.cd dJ18_indexOfChar_9 rfl (lv_at hl 3 rfl) ?_
      refine n_icmp_ge (a := k) (b := L.length) (tgt := 31) F (by omega) (by omega) dJ18_indexOfChar_10 (by decide) (fun c_10 => ?_) (fun c_10 => ?_)
      · refine lv_iconst (v := (-1 : Int32)) F.x F.cd dJ18_indexOfChar_31 (by decide) ?_
        subst hQ
        exact s_reti (v := (-1 : Int32)) F hW rfl (⟨by rw [← hfd]; rfl, rfl⟩) ⟨(Nat.le_of_ble_eq_true rfl), (Nat.le_of_ble_eq_true rfl)⟩ dJ18_indexOfChar_32
      · exact absurd c_10 (by omega)
    | succ n ih7 =>
      intro k hkn hfd H locs ls hW hl
      refine lv_iload F.x F.cd dJ18_indexOfChar_7 (lv_at hl 5 rfl) ?_
      refine lv_iload_n F.x F.cd dJ18_indexOfChar_9 rfl (lv_at hl 3 rfl) ?_
      refine n_icmp_ge (a := k) (b := L.length) (tgt := 31) F (by omega) (by omega) dJ18_indexOfChar_10 (by decide) (fun c_10 => ?_) (fun c_10 => ?_)
      · exact absurd c_10 (by omega)
      · have hb := bts_lt hL k
        refine lv_aload_n F.x F.cd dJ18_indexOfChar_13 rfl (lv_at hl 0 rfl) ?_
        refine lv_iload F.x F.cd dJ18_indexOfChar_14 (lv_at hl 5 rfl) ?_
        refine n_bald (i := k) (n := L.length) (f := (bts L)) (x := (nI (L.getD k 0))) F hW (ev) (by omega) (by omega) (rfl) dJ18_indexOfChar_16 ?_
        refine lv_iload F.x F.cd dJ18_indexOfChar_17 (lv_at hl 4 rfl) ?_
        refine n_icmp_ne (a := L.getD k 0) (b := c) (tgt := 25) F (by omega) (by omega) dJ18_indexOfChar_19 (by decide) (fun c_19 => ?_) (fun c_19 => ?_)
        · refine lv_iinc (k := 5) (v := (nI (k + 1))) (lv' := [(5, .int (nI (k + 1))), (0, .ref v), (1, .int (nI c)), (2, .int (nI i)), (3, .int (nI L.length)), (4, .int (nI c))]) F.x F.cd dJ18_indexOfChar_25 hl rfl (inc_nI k 1) (by decide) rfl (fun ls hl => ?_)
          refine lv_goto (tgt := 7) F.x F.cd dJ18_indexOfChar_28 (by decide) ?_
          exact ih7 (k + 1) (by omega) (by rw [← hfd]; exact (if_neg c_19).symm) H locs ls hW (lv_sub hl [1, 2, 3, 4, 5, 0] rfl)
        · refine lv_iload F.x F.cd dJ18_indexOfChar_22 (lv_at hl 5 rfl) ?_
          subst hQ
          exact s_reti (v := (nI k)) F hW rfl (⟨by rw [← hfd]; exact congrArg (fun z => some (Value.int z)) (if_pos c_19).symm, rfl⟩) ⟨(Nat.le_of_ble_eq_true rfl), (Nat.le_of_ble_eq_true rfl)⟩ dJ18_indexOfChar_24
  exact loop7 (L.length - i) i (by omega) (rfl) H locs ls hW (lv_sub hl [2, 3, 4, 5, 1, 0] rfl)
set_option maxHeartbeats 4000000 in
theorem k_J18_indexOf_3 (g : Gh) (l : Launch) (σ : Sto) (v : Nat) (L : List Nat) (c i : Nat) (ev : σ v = some (eI g 1 L.length (bts L))) (hL : ∀ c ∈ L, c < 128) (hn : L.length < 1000) (hc : c < 128) (hi : i < L.length) : Ct g l yJ18_indexOf_3 cJ18_indexOf_3 4 (some .int) ({ frames := 1, cells := 0, slots := 0, locals := 25 } : Room) [.ref v, .int (nI c), .int (nI i), .int (nI L.length)] σ (fun r σ' => r = some (.int (ixF L c i (L.length - i))) ∧ σ' = σ) (nox) := by
  refine Ct.body (by decide) (Nat.le_of_ble_eq_true rfl) ?_
  intro p_ e_ s_ m_ args_ below_ meth_ c_ ls H locs Q F hW hl hQ
  have hl : lv_has ls 4 [(0, .ref v), (1, .int (nI c)), (2, .int (nI i)), (3, .int (nI L.length))] := hl
  refine lv_iload_n F.x F.cd dJ18_indexOf_3_0 rfl (lv_at hl 1 rfl) ?_
  refine s_callS (As := [.int (nI c)]) (rest := []) (n := 1) F hW (k_J18_canEncode_2 g l σ c (by omega)) q2708 q2709 q90 q2710 (by decide +kernel) rfl ⟨⟨Nat.le_of_ble_eq_true rfl, Nat.le_of_ble_eq_true rfl⟩, ⟨(Nat.le_of_ble_eq_true rfl), (Nat.le_of_ble_eq_true rfl)⟩⟩ (Nat.le_of_ble_eq_true rfl) hl.1 rfl dJ18_indexOf_3_1 cX_no (fun r1 σ1 H locs hp1 hW => ?_)
  obtain ⟨rfl, hs1⟩ := hp1
  rw [hs1] at hW
  refine W.eq (g2 := F0 m_ 4 ls (.int (nI 1) :: [])) rfl ?_
  refine n_if_ne (a := 1) (tgt := 9) F (by omega) dJ18_indexOf_3_4 (by decide) (fun c_4 => ?_) (fun c_4 => absurd c_4 (by decide))
  refine lv_iload_n F.x F.cd dJ18_indexOf_3_9 rfl (lv_at hl 2 rfl) ?_
  refine lv_iconst (v := (nI 0)) F.x F.cd dJ18_indexOf_3_10 (by decide) ?_
  refine s_mmax (v := (nI i)) F q2711 q435 q87 q436 hl.1 (Nat.le_of_ble_eq_true rfl) (Nat.le_of_ble_eq_true rfl) (Nat.le_of_ble_eq_true rfl) (Nat.le_of_ble_eq_true rfl) ((nI_max (by omega) (by omega)).trans (by rw [show max i 0 = i by omega])) dJ18_indexOf_3_11 ?_
  refine lv_istore_n (lv' := [(2, .int (nI i)), (0, .ref v), (1, .int (nI c)), (3, .int (nI L.length))]) F.x F.cd dJ18_indexOf_3_14 rfl hl (by decide) rfl (fun ls hl => ?_)
  refine lv_iload_n F.x F.cd dJ18_indexOf_3_15 rfl (lv_at hl 3 rfl) ?_
  refine lv_aload_n F.x F.cd dJ18_indexOf_3_16 rfl (lv_at hl 1 rfl) ?_
  refine s_alen F hW (ev) 1 rfl (v := nI L.length) rfl dJ18_indexOf_3_17 ?_
  refine s_mmin (v := (nI L.length)) F q2712 q453 q87 q454 hl.1 (Nat.le_of_ble_eq_true rfl) (Nat.le_of_ble_eq_true rfl) (Nat.le_of_ble_eq_true rfl) (Nat.le_of_ble_eq_true rfl) ((nI_min (by omega) (by omega)).trans (by rw [Nat.min_self])) dJ18_indexOf_3_18 ?_
  refine lv_istore_n (lv' := [(3, .int (nI L.length)), (2, .int (nI i)), (0, .ref v), (1, .int (nI c))]) F.x F.cd dJ18_indexOf_3_21 rfl hl (by decide) rfl (fun ls hl => ?_)
  refine lv_iload_n F.x F.cd dJ18_indexOf_3_22 rfl (lv_at hl 1 rfl) ?_
  refine lv_iload_n F.x F.cd dJ18_indexOf_3_23 rfl (lv_at hl 0 rfl) ?_
  refine n_icmp_lt (a := i) (b := L.length) (tgt := 29) F (by omega) (by omega) dJ18_indexOf_3_24 (by decide) (fun c_24 => ?_) (fun c_24 => ?_)
  · refine lv_aload_n F.x F.cd dJ18_indexOf_3_29 rfl (lv_at hl 2 rfl) ?_
    refine lv_iload_n F.x F.cd dJ18_indexOf_3_30 rfl (lv_at hl 3 rfl) ?_
    refine lv_iload_n F.x F.cd dJ18_indexOf_3_31 rfl (lv_at hl 1 rfl) ?_
    refine lv_iload_n F.x F.cd dJ18_indexOf_3_32 rfl (lv_at hl 0 rfl) ?_
    refine s_callS (As := [.ref v, .int (nI c), .int (nI i), .int (nI L.length)]) (rest := []) (n := 4) F hW (k_J18_indexOfChar g l σ v L c i (ev) hL (by omega) (by omega) (by omega)) q2713 q2714 q90 q2715 (by decide +kernel) rfl ⟨⟨Nat.le_of_ble_eq_true rfl, Nat.le_of_ble_eq_true rfl⟩, ⟨(Nat.le_of_ble_eq_true rfl), (Nat.le_of_ble_eq_true rfl)⟩⟩ (Nat.le_of_ble_eq_true rfl) hl.1 rfl dJ18_indexOf_3_33 cX_no (fun r2 σ2 H locs hp2 hW => ?_)
    obtain ⟨rfl, hs2⟩ := hp2
    rw [hs2] at hW
    refine W.eq (g2 := F0 m_ 36 ls (.int (ixF L c i (L.length - i)) :: [])) rfl ?_
    subst hQ
    exact s_reti (v := (ixF L c i (L.length - i))) F hW rfl (⟨rfl, rfl⟩) ⟨(Nat.le_of_ble_eq_true rfl), (Nat.le_of_ble_eq_true rfl)⟩ dJ18_indexOf_3_36
  · exact absurd c_24 (by omega)
set_option maxHeartbeats 4000000 in
theorem k_J7_indexOf_2 (g : Gh) (l : Launch) (σ : Sto) (a : Nat) (L : List Nat) (c i : Nat) (hs : IsStr g σ a L) (hn : L.length < 1000) (hc : c < 128) (hi : i < L.length) : Ct g l yJ7_indexOf_2 cJ7_indexOf_2 3 (some .int) ({ frames := 2, cells := 0, slots := 0, locals := 48 } : Room) [.ref a, .int (nI c), .int (nI i)] σ (fun r σ' => r = some (.int (ixF L c i (L.length - i))) ∧ σ' = σ) (nox) := by
  refine Ct.body (by decide) (Nat.le_of_ble_eq_true rfl) ?_
  intro p_ e_ s_ m_ args_ below_ meth_ c_ ls H locs Q F hW hl hQ
  have hl : lv_has ls 3 [(0, .ref a), (1, .int (nI c)), (2, .int (nI i))] := hl
  obtain ⟨v, h, zz, e0, hh, ev, hL⟩ := id hs
  refine lv_aload_n F.x F.cd dJ7_indexOf_2_0 rfl (lv_at hl 0 rfl) ?_
  refine s_callV (As := []) (rest := []) (C := RJ7) (T := TJ7) (N := 4) (n := 0) F hW (k_J7_isLatin1 g l σ a L  hs ) (e0) rfl q1126 q1127 q1128 q77 q1129 rfl (by decide +kernel) rfl ⟨⟨Nat.le_of_ble_eq_true rfl, Nat.le_of_ble_eq_true rfl⟩, ⟨(Nat.le_of_ble_eq_true rfl), (Nat.le_of_ble_eq_true rfl)⟩⟩ (Nat.le_of_ble_eq_true rfl) hl.1 rfl dJ7_indexOf_2_1 cX_no (fun r1 σ1 H locs hp1 hW => ?_)
  obtain ⟨rfl, hs1⟩ := hp1
  rw [hs1] at hW
  refine W.eq (g2 := F0 m_ 4 ls (.int (nI 1) :: [])) rfl ?_
  refine n_if_eq (a := 1) (tgt := 23) F (by omega) dJ7_indexOf_2_4 (by decide) (fun c_4 => absurd c_4 (by decide)) (fun c_4 => ?_)
  refine lv_aload_n F.x F.cd dJ7_indexOf_2_7 rfl (lv_at hl 0 rfl) ?_
  refine s_get F hW (ci := 6) (C := RJ7) (T := TJ7) (N := 4) (v := .ref v) (e0) rfl in_J7 0 (by decide) q647 (fun _ h9 => h9) rfl dJ7_indexOf_2_8 ?_
  refine lv_iload_n F.x F.cd dJ7_indexOf_2_11 rfl (lv_at hl 1 rfl) ?_
  refine lv_iload_n F.x F.cd dJ7_indexOf_2_12 rfl (lv_at hl 2 rfl) ?_
  refine lv_aload_n F.x F.cd dJ7_indexOf_2_13 rfl (lv_at hl 0 rfl) ?_
  refine s_callV (As := []) (rest := [.int (nI i), .int (nI c), .ref v]) (C := RJ7) (T := TJ7) (N := 4) (n := 0) F hW (k_J7_length g l σ a L  hs ) (e0) rfl q2704 q490 q491 q77 q492 rfl (by decide +kernel) rfl ⟨⟨Nat.le_of_ble_eq_true rfl, Nat.le_of_ble_eq_true rfl⟩, ⟨(Nat.le_of_ble_eq_true rfl), (Nat.le_of_ble_eq_true rfl)⟩⟩ (Nat.le_of_ble_eq_true rfl) hl.1 rfl dJ7_indexOf_2_14 cX_no (fun r2 σ2 H locs hp2 hW => ?_)
  obtain ⟨rfl, hs2⟩ := hp2
  rw [hs2] at hW
  refine W.eq (g2 := F0 m_ 17 ls (.int (nI L.length) :: .int (nI i) :: .int (nI c) :: .ref v :: [])) rfl ?_
  refine s_callS (As := [.ref v, .int (nI c), .int (nI i), .int (nI L.length)]) (rest := []) (n := 4) F hW (k_J18_indexOf_3 g l σ v L c i (ev) hL (by omega) (by omega) (by omega)) q2705 q2706 q90 q2707 (by decide +kernel) rfl ⟨⟨Nat.le_of_ble_eq_true rfl, Nat.le_of_ble_eq_true rfl⟩, ⟨(Nat.le_of_ble_eq_true rfl), (Nat.le_of_ble_eq_true rfl)⟩⟩ (Nat.le_of_ble_eq_true rfl) hl.1 rfl dJ7_indexOf_2_17 cX_no (fun r3 σ3 H locs hp3 hW => ?_)
  obtain ⟨rfl, hs3⟩ := hp3
  rw [hs3] at hW
  refine W.eq (g2 := F0 m_ 20 ls (.int (ixF L c i (L.length - i)) :: [])) rfl ?_
  refine lv_goto (tgt := 36) F.x F.cd dJ7_indexOf_2_20 (by decide) ?_
  subst hQ
  exact s_reti (v := (ixF L c i (L.length - i))) F hW rfl (⟨rfl, rfl⟩) ⟨(Nat.le_of_ble_eq_true rfl), (Nat.le_of_ble_eq_true rfl)⟩ dJ7_indexOf_2_36
set_option maxHeartbeats 4000000 in
theorem k_J18_equals (g : Gh) (l : Launch) (σ : Sto) (v v2 : Nat) (L M : List Nat) (ev : σ v = some (eI g 1 L.length (bts L))) (hL : ∀ c ∈ L, c < 128) (ev2 : σ v2 = some (eI g 1 M.length (bts M))) (hL2 : ∀ c ∈ M, c < 128) (hn : L.length < 1000) (hn2 : M.length < 1000) : Ct g l yJ18_equals cJ18_equals 3 (some .boolean) ({ frames := 0, cells := 0, slots := 0, locals := 0 } : Room) [.ref v, .ref v2] σ (fun r σ' => r = some (.int (bI (decide (L = M)))) ∧ σ' = σ) (nox) := by
  refine Ct.body (by decide) (Nat.le_of_ble_eq_true rfl) ?_
  intro p_ e_ s_ m_ args_ below_ meth_ c_ ls H locs Q F hW hl hQ
  have hl : lv_has ls 3 [(0, .ref v), (1, .ref v2)] := hl
  refine lv_aload_n F.x F.cd dJ18_equals_0 rfl (lv_at hl 0 rfl) ?_
  refine s_alen F hW (ev) 1 rfl (v := nI L.length) rfl dJ18_equals_1 ?_
  refine lv_aload_n F.x F.cd dJ18_equals_2 rfl (lv_at hl 1 rfl) ?_
  refine s_alen F hW (ev2) 1 rfl (v := nI M.length) rfl dJ18_equals_3 ?_
  refine n_icmp_ne (a := L.length) (b := M.length) (tgt := 34) F (by omega) (by omega) dJ18_equals_4 (by decide) (fun c_4 => ?_) (fun c_4 => ?_)
  · refine lv_iconst (v := (nI 0)) F.x F.cd dJ18_equals_34 (by decide) ?_
    subst hQ
    exact s_reti (v := (nI 0)) F hW (by decide) (⟨by rw [decide_eq_false (fun h9 => c_4 (by rw [h9]))]; rfl, rfl⟩) ⟨(Nat.le_of_ble_eq_true rfl), (Nat.le_of_ble_eq_true rfl)⟩ dJ18_equals_35
  · refine lv_iconst (v := (nI 0)) F.x F.cd dJ18_equals_7 (by decide) ?_
    refine lv_istore_n (lv' := [(2, .int (nI 0)), (0, .ref v), (1, .ref v2)]) F.x F.cd dJ18_equals_8 rfl hl (by decide) rfl (fun ls hl => ?_)
    have loop9 : ∀ (n : Nat) (k : Nat), k + n = L.length → (∀ j, j < k → L.getD j 0 = M.getD j 0) → ∀ (H : Heap) (locs : List Loc) (ls : Array Slot), Hl g σ H locs → lv_has ls 3 [(0, .ref v), (1, .ref v2), (2, .int (nI k))] → W p_ l e_ ({ frames := 0, cells := 0, slots := 0, locals := 0 } : Room) s_ m_ args_ below_ meth_ c_ H locs 0 0 Q (F0 m_ 9 ls ([])) := by
      intro n
      induction n with
      | zero =>
        intro k hkn hq H locs ls hW hl
        refine lv_iload_n F.x F.cd dJ18_equals_9 rfl (lv_at hl 2 rfl) ?_
        refine lv_aload_n F.x F.cd dJ18_equals_10 rfl (lv_at hl 0 rfl) ?_
        refine s_alen F hW (ev) 1 rfl (v := nI L.length) rfl dJ18_equals_11 ?_
        refine n_icmp_ge (a := k) (b := L.length) (tgt := 32) F (by omega) (by omega) dJ18_equals_12 (by decide) (fun c_12 => ?_) (fun c_12 => ?_)
        · refine lv_iconst (v := (nI 1)) F.x F.cd dJ18_equals_32 (by decide) ?_
          subst hQ
          exact s_reti (v := (nI 1)) F hW (by decide) (⟨by rw [decide_eq_true (str_eq c_4 (fun j hj => hq j (by omega)))]; rfl, rfl⟩) ⟨(Nat.le_of_ble_eq_true rfl), (Nat.le_of_ble_eq_true rfl)⟩ dJ18_equals_33
        · exact absurd c_12 (by omega)
      | succ n ih9 =>
        intro k hkn hq H locs ls hW hl
        refine lv_iload_n F.x F.cd dJ18_equals_9 rfl (lv_at hl 2 rfl) ?_
        refine lv_aload_n F.x F.cd dJ18_equals_10 rfl (lv_at hl 0 rfl) ?_
        refine s_alen F hW (ev) 1 rfl (v := nI L.length) rfl dJ18_equals_11 ?_
        refine n_icmp_ge (a := k) (b := L.length) (tgt := 32) F (by omega) (by omega) dJ18_equals_12 (by decide) (fun c_12 => ?_) (fun c_12 => ?_)
        · exact absurd c_12 (by omega)
        · have hb := bts_lt hL k
          have hb2 := bts_lt hL2 k
          refine lv_aload_n F.x F.cd dJ18_equals_15 rfl (lv_at hl 0 rfl) ?_
          refine lv_iload_n F.x F.cd dJ18_equals_16 rfl (lv_at hl 2 rfl) ?_
          refine n_bald (i := k) (n := L.length) (f := (bts L)) (x := (nI (L.getD k 0))) F hW (ev) (by omega) (by omega) (rfl) dJ18_equals_17 ?_
          refine lv_aload_n F.x F.cd dJ18_equals_18 rfl (lv_at hl 1 rfl) ?_
          refine lv_iload_n F.x F.cd dJ18_equals_19 rfl (lv_at hl 2 rfl) ?_
          refine n_bald (i := k) (n := M.length) (f := (bts M)) (x := (nI (M.getD k 0))) F hW (ev2) (by omega) (by omega) (rfl) dJ18_equals_20 ?_
          refine n_icmp_eq (a := L.getD k 0) (b := M.getD k 0) (tgt := 26) F (by omega) (by omega) dJ18_equals_21 (by decide) (fun c_21 => ?_) (fun c_21 => ?_)
          · refine lv_iinc (k := 2) (v := (nI (k + 1))) (lv' := [(2, .int (nI (k + 1))), (0, .ref v), (1, .ref v2)]) F.x F.cd dJ18_equals_26 hl rfl (inc_nI k 1) (by decide) rfl (fun ls hl => ?_)
            refine lv_goto (tgt := 9) F.x F.cd dJ18_equals_29 (by decide) ?_
            exact ih9 (k + 1) (by omega) (fun j hj => (Nat.lt_succ_iff_lt_or_eq.mp hj).elim (hq j) (fun e9 => by rw [e9]; exact c_21)) H locs ls hW (lv_sub hl [1, 2, 0] rfl)
          · refine lv_iconst (v := (nI 0)) F.x F.cd dJ18_equals_24 (by decide) ?_
            subst hQ
            exact s_reti (v := (nI 0)) F hW (by decide) (⟨by rw [decide_eq_false (fun h9 => c_21 (by rw [h9]))]; rfl, rfl⟩) ⟨(Nat.le_of_ble_eq_true rfl), (Nat.le_of_ble_eq_true rfl)⟩ dJ18_equals_25
    exact loop9 (L.length) 0 (by omega) (fun j hj => absurd hj (by omega)) H locs ls hW (lv_sub hl [1, 2, 0] rfl)
set_option maxHeartbeats 4000000 in
theorem k_J7_equals (g : Gh) (l : Launch) (σ : Sto) (a b : Nat) (L M : List Nat) (hs : IsStr g σ a L) (hs2 : IsStr g σ b M) (hn : L.length < 1000) (hn2 : M.length < 1000) : Ct g l yJ7_equals cJ7_equals 3 (some .boolean) ({ frames := 1, cells := 0, slots := 0, locals := 22 } : Room) [.ref a, .ref b] σ (fun r σ' => r = some (.int (bI (decide (L = M)))) ∧ σ' = σ) (nox) := by
  refine Ct.body (by decide) (Nat.le_of_ble_eq_true rfl) ?_
  intro p_ e_ s_ m_ args_ below_ meth_ c_ ls H locs Q F hW hl hQ
  have hl : lv_has ls 3 [(0, .ref a), (1, .ref b)] := hl
  obtain ⟨v, h, zz, e0, hh, ev, hL⟩ := id hs
  obtain ⟨v2, h2, zz2, e02, hh2, ev2, hL2⟩ := id hs2
  refine lv_aload_n F.x F.cd dJ7_equals_0 rfl (lv_at hl 0 rfl) ?_
  refine lv_aload_n F.x F.cd dJ7_equals_1 rfl (lv_at hl 1 rfl) ?_
  refine n_acmp_ne (x := a) (y := b) (tgt := 7) F dJ7_equals_2 (by decide) (fun c_2 => ?_) (fun c_2 => ?_)
  · refine lv_aload_n F.x F.cd dJ7_equals_7 rfl (lv_at hl 1 rfl) ?_
    refine s_inst F hW (C := RJ7) (T := TJ7) (N := 4) (e02) rfl q1188 dJ7_equals_8 ?_
    refine n_if_eq (a := 1) (tgt := 54) F (by omega) dJ7_equals_11 (by decide) (fun c_11 => absurd c_11 (by decide)) (fun c_11 => ?_)
    refine lv_aload_n F.x F.cd dJ7_equals_14 rfl (lv_at hl 1 rfl) ?_
    refine s_cast_ F hW (C := RJ7) (T := TJ7) (N := 4) (e02) rfl q1188 dJ7_equals_15 ?_
    refine lv_astore_n (lv' := [(2, .ref b), (0, .ref a), (1, .ref b)]) F.x F.cd dJ7_equals_18 rfl hl (by decide) rfl (fun ls hl => ?_)
    refine s_gets F hW (v := .int (nI 1)) (List.mem_of_getElem? (i := 1) rfl) q497 (fun _ h9 => h9) dJ7_equals_19 ?_
    refine n_if_eq (a := 1) (tgt := 36) F (by omega) dJ7_equals_22 (by decide) (fun c_22 => absurd c_22 (by decide)) (fun c_22 => ?_)
    refine lv_aload_n F.x F.cd dJ7_equals_25 rfl (lv_at hl 1 rfl) ?_
    refine s_get F hW (ci := 6) (C := RJ7) (T := TJ7) (N := 4) (v := .int (nI 0)) (e0) rfl in_J7 1 (by decide) q648 (fun _ h9 => h9) rfl dJ7_equals_26 ?_
    refine lv_aload_n F.x F.cd dJ7_equals_29 rfl (lv_at hl 0 rfl) ?_
    refine s_get F hW (ci := 6) (C := RJ7) (T := TJ7) (N := 4) (v := .int (nI 0)) (e02) rfl in_J7 1 (by decide) q648 (fun _ h9 => h9) rfl dJ7_equals_30 ?_
    refine n_icmp_ne (a := 0) (b := 0) (tgt := 54) F (by omega) (by omega) dJ7_equals_33 (by decide) (fun c_33 => absurd c_33 (by decide)) (fun c_33 => ?_)
    refine lv_aload_n F.x F.cd dJ7_equals_36 rfl (lv_at hl 1 rfl) ?_
    refine s_get F hW (ci := 6) (C := RJ7) (T := TJ7) (N := 4) (v := .ref v) (e0) rfl in_J7 0 (by decide) q647 (fun _ h9 => h9) rfl dJ7_equals_37 ?_
    refine lv_aload_n F.x F.cd dJ7_equals_40 rfl (lv_at hl 0 rfl) ?_
    refine s_get F hW (ci := 6) (C := RJ7) (T := TJ7) (N := 4) (v := .ref v2) (e02) rfl in_J7 0 (by decide) q647 (fun _ h9 => h9) rfl dJ7_equals_41 ?_
    refine s_callS (As := [.ref v, .ref v2]) (rest := []) (n := 2) F hW (k_J18_equals g l σ v v2 L M (ev) hL (ev2) hL2 (by omega) (by omega)) q1189 q1190 q90 q1191 (by decide +kernel) rfl ⟨⟨Nat.le_of_ble_eq_true rfl, Nat.le_of_ble_eq_true rfl⟩, ⟨(Nat.le_of_ble_eq_true rfl), (Nat.le_of_ble_eq_true rfl)⟩⟩ (Nat.le_of_ble_eq_true rfl) hl.1 rfl dJ7_equals_44 cX_no (fun r1 σ1 H locs hp1 hW => ?_)
    obtain ⟨rfl, hs1⟩ := hp1
    rw [hs1] at hW
    refine W.eq (g2 := F0 m_ 47 ls (.int (bI (decide (L = M))) :: [])) rfl ?_
    refine b_if_eq (b := (decide (L = M))) (tgt := 54) F dJ7_equals_47 (by decide) (fun c_47 => ?_) (fun c_47 => ?_)
    · refine lv_iconst (v := (nI 0)) F.x F.cd dJ7_equals_54 (by decide) ?_
      subst hQ
      exact s_reti (v := (nI 0)) F hW (by decide) (⟨by rw [c_47]; rfl, rfl⟩) ⟨(Nat.le_of_ble_eq_true rfl), (Nat.le_of_ble_eq_true rfl)⟩ dJ7_equals_55
    · refine lv_iconst (v := (nI 1)) F.x F.cd dJ7_equals_50 (by decide) ?_
      refine lv_goto (tgt := 55) F.x F.cd dJ7_equals_51 (by decide) ?_
      subst hQ
      exact s_reti (v := (nI 1)) F hW (by decide) (⟨by rw [c_47]; rfl, rfl⟩) ⟨(Nat.le_of_ble_eq_true rfl), (Nat.le_of_ble_eq_true rfl)⟩ dJ7_equals_55
  · refine lv_iconst (v := (nI 1)) F.x F.cd dJ7_equals_5 (by decide) ?_
    subst hQ
    exact s_reti (v := (nI 1)) F hW (by decide) (⟨by rw [decide_eq_true (isstr_uniq (c_2 ▸ hs) hs2)]; rfl, rfl⟩) ⟨(Nat.le_of_ble_eq_true rfl), (Nat.le_of_ble_eq_true rfl)⟩ dJ7_equals_6
set_option maxHeartbeats 4000000 in
theorem k_J15_signedHashCode (g : Gh) (l : Launch) (σ : Sto) (v : Nat) (L : List Nat) (ev : σ v = some (eI g 1 L.length (bts L))) (hL : ∀ c ∈ L, c < 128) (hn : L.length < 1000) : Ct g l yJ15_signedHashCode cJ15_signedHashCode 6 (some .int) ({ frames := 0, cells := 0, slots := 0, locals := 0 } : Room) [.int (nI 0), .ref v, .int (nI 0), .int (nI L.length)] σ (fun r σ' => r = some (.int (hashN L)) ∧ σ' = σ) (nox) := by
  refine Ct.body (by decide) (Nat.le_of_ble_eq_true rfl) ?_
  intro p_ e_ s_ m_ args_ below_ meth_ c_ ls H locs Q F hW hl hQ
  have hl : lv_has ls 6 [(0, .int (nI 0)), (1, .ref v), (2, .int (nI 0)), (3, .int (nI L.length))] := hl
  refine lv_iload_n F.x F.cd dJ15_signedHashCode_0 rfl (lv_at hl 2 rfl) ?_
  refine lv_iload_n F.x F.cd dJ15_signedHashCode_1 rfl (lv_at hl 3 rfl) ?_
  refine a_iadd (v := (nI L.length)) F ((nI_add _ _).trans (by rw [Nat.zero_add])) dJ15_signedHashCode_2 ?_
  refine lv_istore (lv' := [(4, .int (nI L.length)), (0, .int (nI 0)), (1, .ref v), (2, .int (nI 0)), (3, .int (nI L.length))]) F.x F.cd dJ15_signedHashCode_3 hl (by decide) rfl (fun ls hl => ?_)
  refine lv_iload_n F.x F.cd dJ15_signedHashCode_5 rfl (lv_at hl 3 rfl) ?_
  refine lv_istore (lv' := [(5, .int (nI 0)), (4, .int (nI L.length)), (0, .int (nI 0)), (1, .ref v), (2, .int (nI 0)), (3, .int (nI L.length))]) F.x F.cd dJ15_signedHashCode_6 hl (by decide) rfl (fun ls hl => ?_)
  have hl : lv_has ls 6 [(5, .int (nI 0)), (4, .int (nI L.length)), (0, .int (hsh L 0)), (1, .ref v), (2, .int (nI 0)), (3, .int (nI L.length))] := by rw [hsh_0]; exact hl
  have loop8 : ∀ (n : Nat) (k : Nat), k + n = L.length → ∀ (H : Heap) (locs : List Loc) (ls : Array Slot), Hl g σ H locs → lv_has ls 6 [(0, .int (hsh L k)), (1, .ref v), (2, .int (nI 0)), (3, .int (nI L.length)), (4, .int (nI L.length)), (5, .int (nI k))] → W p_ l e_ ({ frames := 0, cells := 0, slots := 0, locals := 0 } : Room) s_ m_ args_ below_ meth_ c_ H locs 0 0 Q (F0 m_ 8 ls ([])) := by
    intro n
    induction n with
    | zero =>
      intro k hkn  H locs ls hW hl
      refine lv_iload F.x F.cd dJ15_signedHashCode_8 (lv_at hl 5 rfl) ?_
      refine lv_iload F.x F.cd dJ15_signedHashCode_10 (lv_at hl 4 rfl) ?_
      refine n_icmp_ge (a := k) (b := L.length) (tgt := 35) F (by omega) (by omega) dJ15_signedHashCode_12 (by decide) (fun c_12 => ?_) (fun c_12 => ?_)
      · refine lv_iload_n F.x F.cd dJ15_signedHashCode_35 rfl (lv_at hl 0 rfl) ?_
        subst hQ
        exact s_reti (v := (hsh L k)) F hW rfl (⟨by rw [show k = L.length by omega, hsh_e], rfl⟩) ⟨(Nat.le_of_ble_eq_true rfl), (Nat.le_of_ble_eq_true rfl)⟩ dJ15_signedHashCode_36
      · exact absurd c_12 (by omega)
    | succ n ih8 =>
      intro k hkn  H locs ls hW hl
      refine lv_iload F.x F.cd dJ15_signedHashCode_8 (lv_at hl 5 rfl) ?_
      refine lv_iload F.x F.cd dJ15_signedHashCode_10 (lv_at hl 4 rfl) ?_
      refine n_icmp_ge (a := k) (b := L.length) (tgt := 35) F (by omega) (by omega) dJ15_signedHashCode_12 (by decide) (fun c_12 => ?_) (fun c_12 => ?_)
      · exact absurd c_12 (by omega)
      · refine lv_bipush (v := (nI 31)) F.x F.cd dJ15_signedHashCode_15 (by decide) ?_
        refine lv_iload_n F.x F.cd dJ15_signedHashCode_17 rfl (lv_at hl 0 rfl) ?_
        refine a_imul (v := (nI 31 * hsh L k)) F (rfl) dJ15_signedHashCode_18 ?_
        refine lv_aload_n F.x F.cd dJ15_signedHashCode_19 rfl (lv_at hl 1 rfl) ?_
        have hb := bts_lt hL k
        refine lv_iload F.x F.cd dJ15_signedHashCode_20 (lv_at hl 5 rfl) ?_
        refine n_bald (i := k) (n := L.length) (f := (bts L)) (x := (nI (L.getD k 0))) F hW (ev) (by omega) (by omega) (rfl) dJ15_signedHashCode_22 ?_
        refine lv_sipush (v := (nI 255)) F.x F.cd dJ15_signedHashCode_23 (by decide) ?_
        refine a_iand (v := (nI (L.getD k 0))) F (and255 _ (by omega)) dJ15_signedHashCode_26 ?_
        refine a_iadd (v := (hsh L (k + 1))) F ((hsh_s (by omega)).symm) dJ15_signedHashCode_27 ?_
        refine lv_istore_n (lv' := [(0, .int (hsh L (k + 1))), (1, .ref v), (2, .int (nI 0)), (3, .int (nI L.length)), (4, .int (nI L.length)), (5, .int (nI k))]) F.x F.cd dJ15_signedHashCode_28 rfl hl (by decide) rfl (fun ls hl => ?_)
        refine lv_iinc (k := 5) (v := (nI (k + 1))) (lv' := [(5, .int (nI (k + 1))), (0, .int (hsh L (k + 1))), (1, .ref v), (2, .int (nI 0)), (3, .int (nI L.length)), (4, .int (nI L.length))]) F.x F.cd dJ15_signedHashCode_29 hl rfl (inc_nI k 1) (by decide) rfl (fun ls hl => ?_)
        refine lv_goto (tgt := 8) F.x F.cd dJ15_signedHashCode_32 (by decide) ?_
        exact ih8 (k + 1) (by omega)  H locs ls hW (lv_sub hl [1, 2, 3, 4, 5, 0] rfl)
  exact loop8 (L.length) 0 (by omega)  H locs ls hW (lv_sub hl [2, 3, 4, 5, 1, 0] rfl)
set_option maxHeartbeats 4000000 in
theorem k_J15_vectorizedHashCode (g : Gh) (l : Launch) (σ : Sto) (v : Nat) (L : List Nat) (ev : σ v = some (eI g 1 L.length (bts L))) (hL : ∀ c ∈ L, c < 128) (hn : L.length < 1000) : Ct g l yJ15_vectorizedHashCode cJ15_vectorizedHashCode 5 (some .int) ({ frames := 1, cells := 0, slots := 0, locals := 25 } : Room) [.ref v, .int (nI 0), .int (nI L.length), .int (nI 0), .int (nI 4)] σ (fun r σ' => r = some (.int (hashN L)) ∧ σ' = σ) (nox) := by
  refine Ct.body (by decide) (Nat.le_of_ble_eq_true rfl) ?_
  intro p_ e_ s_ m_ args_ below_ meth_ c_ ls H locs Q F hW hl hQ
  have hl : lv_has ls 5 [(0, .ref v), (1, .int (nI 0)), (2, .int (nI L.length)), (3, .int (nI 0)), (4, .int (nI 4))] := hl
  refine lv_iload F.x F.cd dJ15_vectorizedHashCode_0 (lv_at hl 4 rfl) ?_
  refine n_tableIn (x := 4) (tgt := 44) (off := 42) F dJ15_vectorizedHashCode_2 (by decide) (by decide) (by decide) rfl (by decide) ?_
  refine lv_iload_n F.x F.cd dJ15_vectorizedHashCode_44 rfl (lv_at hl 3 rfl) ?_
  refine lv_aload_n F.x F.cd dJ15_vectorizedHashCode_45 rfl (lv_at hl 0 rfl) ?_
  refine s_castB F hW (ev) q1136 dJ15_vectorizedHashCode_46 ?_
  refine lv_iload_n F.x F.cd dJ15_vectorizedHashCode_49 rfl (lv_at hl 1 rfl) ?_
  refine lv_iload_n F.x F.cd dJ15_vectorizedHashCode_50 rfl (lv_at hl 2 rfl) ?_
  refine s_callS (As := [.int (nI 0), .ref v, .int (nI 0), .int (nI L.length)]) (rest := []) (n := 4) F hW (k_J15_signedHashCode g l σ v L (ev) hL (by omega)) q1137 q1138 q86 q1139 (by decide +kernel) rfl ⟨⟨Nat.le_of_ble_eq_true rfl, Nat.le_of_ble_eq_true rfl⟩, ⟨(Nat.le_of_ble_eq_true rfl), (Nat.le_of_ble_eq_true rfl)⟩⟩ (Nat.le_of_ble_eq_true rfl) hl.1 rfl dJ15_vectorizedHashCode_51 cX_no (fun r1 σ1 H locs hp1 hW => ?_)
  obtain ⟨rfl, hs1⟩ := hp1
  rw [hs1] at hW
  refine W.eq (g2 := F0 m_ 54 ls (.int (hashN L) :: [])) rfl ?_
  refine lv_goto (tgt := 157) F.x F.cd dJ15_vectorizedHashCode_54 (by decide) ?_
  subst hQ
  exact s_reti (v := (hashN L)) F hW rfl (⟨rfl, rfl⟩) ⟨(Nat.le_of_ble_eq_true rfl), (Nat.le_of_ble_eq_true rfl)⟩ dJ15_vectorizedHashCode_157
set_option maxHeartbeats 4000000 in
theorem k_J18_hashCode (g : Gh) (l : Launch) (σ : Sto) (v : Nat) (L : List Nat) (ev : σ v = some (eI g 1 L.length (bts L))) (hL : ∀ c ∈ L, c < 128) (hn : L.length < 1000) (h2 : 2 ≤ L.length) : Ct g l yJ18_hashCode cJ18_hashCode 1 (some .int) ({ frames := 2, cells := 0, slots := 0, locals := 49 } : Room) [.ref v] σ (fun r σ' => r = some (.int (hashN L)) ∧ σ' = σ) (nox) := by
  refine Ct.body (by decide) (Nat.le_of_ble_eq_true rfl) ?_
  intro p_ e_ s_ m_ args_ below_ meth_ c_ ls H locs Q F hW hl hQ
  have hl : lv_has ls 1 [(0, .ref v)] := hl
  refine lv_aload_n F.x F.cd dJ18_hashCode_0 rfl (lv_at hl 0 rfl) ?_
  refine s_alen F hW (ev) 1 rfl (v := nI L.length) rfl dJ18_hashCode_1 ?_
  refine lv_lookup (x := (nI L.length)) (off := 40) (tgt := 42) F.x F.cd dJ18_hashCode_2 (by decide) ((lv_osw (a := 0) (o := 26) (d := 40) (r := [(1, 30)]) (k := nI 0) (fun h9 => absurd ((nI_eq (by omega) (by omega)).mp h9) (by omega)) rfl).trans ((lv_osw (a := 1) (o := 30) (d := 40) (r := []) (k := nI 1) (fun h9 => absurd ((nI_eq (by omega) (by omega)).mp h9) (by omega)) rfl).trans rfl)) (by decide) ?_
  refine lv_aload_n F.x F.cd dJ18_hashCode_42 rfl (lv_at hl 0 rfl) ?_
  refine lv_iconst (v := (nI 0)) F.x F.cd dJ18_hashCode_43 (by decide) ?_
  refine lv_aload_n F.x F.cd dJ18_hashCode_44 rfl (lv_at hl 0 rfl) ?_
  refine s_alen F hW (ev) 1 rfl (v := nI L.length) rfl dJ18_hashCode_45 ?_
  refine lv_iconst (v := (nI 0)) F.x F.cd dJ18_hashCode_46 (by decide) ?_
  refine lv_iconst (v := (nI 4)) F.x F.cd dJ18_hashCode_47 (by decide) ?_
  refine s_callS (As := [.ref v, .int (nI 0), .int (nI L.length), .int (nI 0), .int (nI 4)]) (rest := []) (n := 5) F hW (k_J15_vectorizedHashCode g l σ v L (ev) hL (by omega)) q1133 q1134 q86 q1135 (by decide +kernel) rfl ⟨⟨Nat.le_of_ble_eq_true rfl, Nat.le_of_ble_eq_true rfl⟩, ⟨(Nat.le_of_ble_eq_true rfl), (Nat.le_of_ble_eq_true rfl)⟩⟩ (Nat.le_of_ble_eq_true rfl) hl.1 rfl dJ18_hashCode_48 cX_no (fun r1 σ1 H locs hp1 hW => ?_)
  obtain ⟨rfl, hs1⟩ := hp1
  rw [hs1] at hW
  refine W.eq (g2 := F0 m_ 51 ls (.int (hashN L) :: [])) rfl ?_
  subst hQ
  exact s_reti (v := (hashN L)) F hW rfl (⟨rfl, rfl⟩) ⟨(Nat.le_of_ble_eq_true rfl), (Nat.le_of_ble_eq_true rfl)⟩ dJ18_hashCode_51
set_option maxHeartbeats 4000000 in
theorem k_J7_hashCode (g : Gh) (l : Launch) (σ : Sto) (a : Nat) (L : List Nat) (hs : IsStr g σ a L) (hn : L.length < 1000) (h2 : 2 ≤ L.length) (hfr : gB g ≤ a ∨ IsStrC g σ a L) : Ct g l yJ7_hashCode cJ7_hashCode 2 (some .int) ({ frames := 3, cells := 0, slots := 0, locals := 69 } : Room) [.ref a] σ (fun r σ' => r = some (.int (hashN L)) ∧ IsStr g σ' a L ∧ Hs g σ σ' a) (nox) := by
  refine Ct.body (by decide) (Nat.le_of_ble_eq_true rfl) ?_
  intro p_ e_ s_ m_ args_ below_ meth_ c_ ls H locs Q F hW hl hQ
  have hl : lv_has ls 2 [(0, .ref a)] := hl
  obtain ⟨v, h, zz, e0, hh, ev, hL⟩ := id hs
  refine lv_aload_n F.x F.cd dJ7_hashCode_0 rfl (lv_at hl 0 rfl) ?_
  refine s_get F hW (ci := 6) (C := RJ7) (T := TJ7) (N := 4) (v := .int h) (e0) rfl in_J7 2 (by decide) q649 (fun _ h9 => h9) rfl dJ7_hashCode_1 ?_
  refine lv_istore_n (lv' := [(1, .int h), (0, .ref a)]) F.x F.cd dJ7_hashCode_4 rfl hl (by decide) rfl (fun ls hl => ?_)
  refine lv_iload_n F.x F.cd dJ7_hashCode_5 rfl (lv_at hl 0 rfl) ?_
  refine lv_if_ne (x := h) (tgt := 58) F.x F.cd dJ7_hashCode_6 (by decide) (fun c_6 => ?_) (fun c_6 => ?_)
  · refine lv_iload_n F.x F.cd dJ7_hashCode_58 rfl (lv_at hl 0 rfl) ?_
    subst hQ
    exact s_reti (v := h) F hW rfl (⟨hash_ne hh c_6, hs, Or.inl rfl⟩) ⟨(Nat.le_of_ble_eq_true rfl), (Nat.le_of_ble_eq_true rfl)⟩ dJ7_hashCode_59
  · refine lv_aload_n F.x F.cd dJ7_hashCode_9 rfl (lv_at hl 1 rfl) ?_
    refine s_get F hW (ci := 6) (C := RJ7) (T := TJ7) (N := 4) (v := .int zz) (e0) rfl in_J7 3 (by decide) q650 (fun _ h9 => h9) rfl dJ7_hashCode_10 ?_
    refine lv_if_ne (x := zz) (tgt := 58) F.x F.cd dJ7_hashCode_13 (by decide) (fun c_13 => ?_) (fun c_13 => ?_)
    · refine lv_iload_n F.x F.cd dJ7_hashCode_58 rfl (lv_at hl 0 rfl) ?_
      subst hQ
      exact s_reti (v := h) F hW rfl (⟨hash_z hh (by simpa using c_6) c_13, hs, Or.inl rfl⟩) ⟨(Nat.le_of_ble_eq_true rfl), (Nat.le_of_ble_eq_true rfl)⟩ dJ7_hashCode_59
    · have hba : gB g ≤ a := hfr.elim id (fun h9 => (strC_warm h9 e0 (by simpa using c_6) (by simpa using c_13)).elim)
      refine lv_aload_n F.x F.cd dJ7_hashCode_16 rfl (lv_at hl 1 rfl) ?_
      refine s_callV (As := []) (rest := []) (C := RJ7) (T := TJ7) (N := 4) (n := 0) F hW (k_J7_isLatin1 g l σ a L  hs ) (e0) rfl q1126 q1127 q1128 q77 q1129 rfl (by decide +kernel) rfl ⟨⟨Nat.le_of_ble_eq_true rfl, Nat.le_of_ble_eq_true rfl⟩, ⟨(Nat.le_of_ble_eq_true rfl), (Nat.le_of_ble_eq_true rfl)⟩⟩ (Nat.le_of_ble_eq_true rfl) hl.1 rfl dJ7_hashCode_17 cX_no (fun r1 σ1 H locs hp1 hW => ?_)
      obtain ⟨rfl, hs1⟩ := hp1
      rw [hs1] at hW
      refine W.eq (g2 := F0 m_ 20 ls (.int (nI 1) :: [])) rfl ?_
      refine n_if_eq (a := 1) (tgt := 33) F (by omega) dJ7_hashCode_20 (by decide) (fun c_20 => absurd c_20 (by decide)) (fun c_20 => ?_)
      refine lv_aload_n F.x F.cd dJ7_hashCode_23 rfl (lv_at hl 1 rfl) ?_
      refine s_get F hW (ci := 6) (C := RJ7) (T := TJ7) (N := 4) (v := .ref v) (e0) rfl in_J7 0 (by decide) q647 (fun _ h9 => h9) rfl dJ7_hashCode_24 ?_
      refine s_callS (As := [.ref v]) (rest := []) (n := 1) F hW (k_J18_hashCode g l σ v L (ev) hL (by omega) (by omega)) q1130 q1131 q90 q1132 (by decide +kernel) rfl ⟨⟨Nat.le_of_ble_eq_true rfl, Nat.le_of_ble_eq_true rfl⟩, ⟨(Nat.le_of_ble_eq_true rfl), (Nat.le_of_ble_eq_true rfl)⟩⟩ (Nat.le_of_ble_eq_true rfl) hl.1 rfl dJ7_hashCode_27 cX_no (fun r2 σ2 H locs hp2 hW => ?_)
      obtain ⟨rfl, hs2⟩ := hp2
      rw [hs2] at hW
      refine W.eq (g2 := F0 m_ 30 ls (.int (hashN L) :: [])) rfl ?_
      refine lv_goto (tgt := 40) F.x F.cd dJ7_hashCode_30 (by decide) ?_
      refine lv_istore_n (lv' := [(1, .int (hashN L)), (0, .ref a)]) F.x F.cd dJ7_hashCode_40 rfl hl (by decide) rfl (fun ls hl => ?_)
      refine lv_iload_n F.x F.cd dJ7_hashCode_41 rfl (lv_at hl 0 rfl) ?_
      refine lv_if_ne (x := (hashN L)) (tgt := 53) F.x F.cd dJ7_hashCode_42 (by decide) (fun c_42 => ?_) (fun c_42 => ?_)
      · refine lv_aload_n F.x F.cd dJ7_hashCode_53 rfl (lv_at hl 1 rfl) ?_
        refine lv_iload_n F.x F.cd dJ7_hashCode_54 rfl (lv_at hl 0 rfl) ?_
        refine s_put F hW (ci := 6) (C := RJ7) (T := TJ7) (N := 4) (v := .int (hashN L)) (ty := .int) (e0) (hba) rfl in_J7 tyJ7_ok nmJ7 2 (by decide) q649 (fun _ h9 => h9) rfl (by decide +kernel) rfl rfl (Nat.le_of_ble_eq_true rfl) dJ7_hashCode_55 (fun H locs hW => ?_)
        obtain ⟨σ4, hσ4⟩ : ∃ z, z = sset σ a (.inr (6, [.ref v, .int (nI 0), .int (hashN L), .int zz])) := ⟨_, rfl⟩
        have hW : Hl g σ4 H locs := by rw [hσ4]; exact hW
        have w4 : σ4 a = some (.inr (6, [.ref v, .int (nI 0), .int (hashN L), .int zz])) := by rw [hσ4]; exact sset_eq
        have f5 : σ4 v = some (eI g 1 L.length (bts L)) := by rw [hσ4, sset_ne (sto_ne e0 ev (by simp))]; exact ev
        refine lv_iload_n F.x F.cd dJ7_hashCode_58 rfl (lv_at hl 0 rfl) ?_
        subst hQ
        exact s_reti (v := (hashN L)) F hW rfl (⟨rfl, ⟨v, _, _, w4, Or.inr (Or.inl ⟨rfl, c_42, c_13⟩), f5, hL⟩, Or.inr ⟨hba, _, _, e0, by rw [hσ4]⟩⟩) ⟨(Nat.le_of_ble_eq_true rfl), (Nat.le_of_ble_eq_true rfl)⟩ dJ7_hashCode_59
      · refine lv_aload_n F.x F.cd dJ7_hashCode_45 rfl (lv_at hl 1 rfl) ?_
        refine lv_iconst (v := (nI 1)) F.x F.cd dJ7_hashCode_46 (by decide) ?_
        refine s_put F hW (ci := 6) (C := RJ7) (T := TJ7) (N := 4) (v := .int (nI 1)) (ty := .boolean) (e0) (hba) rfl in_J7 tyJ7_ok nmJ7 3 (by decide) q650 (fun _ h9 => h9) rfl (by decide +kernel) (by decide) (by decide) (Nat.le_of_ble_eq_true rfl) dJ7_hashCode_47 (fun H locs hW => ?_)
        obtain ⟨σ7, hσ7⟩ : ∃ z, z = sset σ a (.inr (6, [.ref v, .int (nI 0), .int h, .int (nI 1)])) := ⟨_, rfl⟩
        have hW : Hl g σ7 H locs := by rw [hσ7]; exact hW
        have w7 : σ7 a = some (.inr (6, [.ref v, .int (nI 0), .int h, .int (nI 1)])) := by rw [hσ7]; exact sset_eq
        have f8 : σ7 v = some (eI g 1 L.length (bts L)) := by rw [hσ7, sset_ne (sto_ne e0 ev (by simp))]; exact ev
        refine lv_goto (tgt := 58) F.x F.cd dJ7_hashCode_50 (by decide) ?_
        refine lv_iload_n F.x F.cd dJ7_hashCode_58 rfl (lv_at hl 0 rfl) ?_
        subst hQ
        exact s_reti (v := (hashN L)) F hW rfl (⟨rfl, ⟨v, _, _, w7, Or.inr (Or.inr ⟨by simpa using c_6, c_42, rfl⟩), f8, hL⟩, Or.inr ⟨hba, _, _, e0, by rw [hσ7]⟩⟩) ⟨(Nat.le_of_ble_eq_true rfl), (Nat.le_of_ble_eq_true rfl)⟩ dJ7_hashCode_59
