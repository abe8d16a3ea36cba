/-! ===== copies of texts ===== -/
set_option maxRecDepth 100000
theorem sub_get {L : List Nat} {i j x : Nat} (hj : j ≤ L.length) (hx : x < j - i) : ((L.take j).drop i).getD x 0 = L.getD (i + x) 0 := by
  rw [List.getD_eq_getElem?_getD, List.getD_eq_getElem?_getD, List.getElem?_drop, List.getElem?_take, if_pos (by omega)]
theorem sub_len {L : List Nat} {i j : Nat} (hj : j ≤ L.length) : ((L.take j).drop i).length = j - i := by
  rw [List.length_drop, List.length_take, Nat.min_eq_left hj]
theorem sub_lt {L : List Nat} {i j : Nat} (hL : ∀ c ∈ L, c < 128) : ∀ c ∈ (L.take j).drop i, c < 128 := fun c hc => hL c (List.mem_of_mem_take (List.mem_of_mem_drop hc))
/-- an address that is free after something was made was free before -/
theorem extn {σ σ1 : Sto} {a q : Nat} {e : va_E} (hn : σ a = none) (hq : σ1 q = none) (h : σ1 = sset σ a e) : σ q = none := by
  rw [h] at hq
  by_cases e1 : q = a
  · rw [e1, sset_eq] at hq; cases hq
  · rw [sset_ne e1] at hq; exact hq
set_option maxHeartbeats 4000000 in
theorem k_J17_checkLength (g : Gh) (l : Launch) (σ : Sto) (i j : Nat) (h : i ≤ j) (hj : j < 2 ^ 31) : Ct g l yJ17_checkLength cJ17_checkLength 2 none ({ frames := 0, cells := 0, slots := 0, locals := 0 } : Room) [.int (nI i), .int (nI j)] σ (fun r σ' => r = none ∧ σ' = σ) (nox) := by
  refine Ct.body (by decide) (Nat.le_of_ble_eq_true rfl) ?_
  intro p_ e_ s_ m_ args_ below_ meth_ c_ ls H locs Q F hW hl hQ
  have hl : lv_has ls 2 [(0, .int (nI i)), (1, .int (nI j))] := hl
  refine lv_iload_n F.x F.cd dJ17_checkLength_0 rfl (lv_at hl 1 rfl) ?_
  refine lv_iload_n F.x F.cd dJ17_checkLength_1 rfl (lv_at hl 0 rfl) ?_
  refine n_icmp_ge (a := j) (b := i) (tgt := 37) F (by omega) (by omega) dJ17_checkLength_2 (by decide) (fun c_2 => ?_) (fun c_2 => ?_)
  · subst hQ
    exact s_retv F hW (⟨rfl, rfl⟩) ⟨(Nat.le_of_ble_eq_true rfl), (Nat.le_of_ble_eq_true rfl)⟩ dJ17_checkLength_37
  · exact absurd c_2 (by omega)
set_option maxHeartbeats 4000000 in
theorem k_J17_copyOfRangeByte (g : Gh) (l : Launch) (σ : Sto) (v n i j : Nat) (f : Nat → Int32) (ev : σ v = some (eI g 1 n f)) (hf : ∀ x, x < n → fits .byte (.int (f x)) = true) (hn : n < 1000) (hij : i ≤ j) (hj : j ≤ n) (h128 : j - i ≤ 128) : Ct g l yJ17_copyOfRangeByte cJ17_copyOfRangeByte 5 (some (.array .byte)) ({ frames := 1, cells := 1, slots := 128, locals := 60 } : Room) [.ref v, .int (nI i), .int (nI j)] σ (fun r σ' => ∃ q, r = some (.ref q) ∧ σ q = none ∧ gB g ≤ q ∧ σ' = sset σ q (eI g 1 (j - i) (fun x => f (i + x)))) (nox) := by
  refine Ct.body (by decide) (Nat.le_of_ble_eq_true rfl) ?_
  intro p_ e_ s_ m_ args_ below_ meth_ c_ ls H locs Q F hW hl hQ
  have hl : lv_has ls 5 [(0, .ref v), (1, .int (nI i)), (2, .int (nI j))] := hl
  refine lv_iload_n F.x F.cd dJ17_copyOfRangeByte_0 rfl (lv_at hl 1 rfl) ?_
  refine lv_iload_n F.x F.cd dJ17_copyOfRangeByte_1 rfl (lv_at hl 2 rfl) ?_
  refine s_callS (As := [.int (nI i), .int (nI j)]) (rest := []) (n := 2) F hW (k_J17_checkLength g l σ i j (by omega) (by omega)) q591 q592 q88 q593 (by decide +kernel) rfl ⟨⟨Nat.le_of_ble_eq_true rfl, Nat.le_of_ble_eq_true rfl⟩, ⟨(Nat.le_of_ble_eq_true rfl), (Nat.le_of_ble_eq_true rfl)⟩⟩ (Nat.le_of_ble_eq_true rfl) hl.1 rfl dJ17_copyOfRangeByte_2 cX_no (fun r1 σ1 H locs hp1 hW => ?_)
  obtain ⟨rfl, hs1⟩ := hp1
  rw [hs1] at hW
  refine W.eq (g2 := F0 m_ 5 ls ([])) rfl ?_
  refine lv_iload_n F.x F.cd dJ17_copyOfRangeByte_5 rfl (lv_at hl 2 rfl) ?_
  refine lv_iload_n F.x F.cd dJ17_copyOfRangeByte_6 rfl (lv_at hl 1 rfl) ?_
  refine a_isub (v := (nI (j - i))) F (pk_sub (by omega)) dJ17_copyOfRangeByte_7 ?_
  refine lv_istore_n (lv' := [(3, .int (nI (j - i))), (0, .ref v), (1, .int (nI i)), (2, .int (nI j))]) F.x F.cd dJ17_copyOfRangeByte_8 rfl hl (by decide) rfl (fun ls hl => ?_)
  refine lv_iload_n F.x F.cd dJ17_copyOfRangeByte_9 rfl (lv_at hl 0 rfl) ?_
  refine s_newa F hW 1 (N := j - i) (atype := .byte) (ty := .byte) rfl rfl rfl q239 (j - i, .inl (fun _ => 0)) rfl (nI_pos (by omega)) (nI_clamp (by omega)) (by show _ * 1 ≤ _; omega) (Nat.le_of_ble_eq_true rfl) (Nat.le_trans (m := 128) (by show 0 + (j - i) ≤ _; omega) (Nat.le_of_ble_eq_true rfl)) dJ17_copyOfRangeByte_10 (fun q2_ H hb_q2_ hn_q2_ hW => ?_)
  refine W.widen (k := 1) (n := 128) (Nat.le_of_ble_eq_true rfl) (by show 0 + (j - i) ≤ _; omega) ?_
  obtain ⟨σ3, hσ3⟩ : ∃ z, z = sset σ q2_ (eI g 1 (j - i) (fun x9 => nI ((fun _ => 0) x9))) := ⟨_, rfl⟩
  have hW : Hl g σ3 H locs := by rw [hσ3]; exact hW
  have w3 : σ3 q2_ = some (eI g 1 (j - i) (fun x9 => nI ((fun _ => 0) x9))) := by rw [hσ3]; exact sset_eq
  have f4 : σ3 v = some (eI g 1 n f) := by rw [hσ3, sset_ne (sto_ne0 hn_q2_ ev)]; exact ev
  refine lv_astore (lv' := [(4, .ref q2_), (3, .int (nI (j - i))), (0, .ref v), (1, .int (nI i)), (2, .int (nI j))]) F.x F.cd dJ17_copyOfRangeByte_12 hl (by decide) rfl (fun ls hl => ?_)
  refine lv_aload_n F.x F.cd dJ17_copyOfRangeByte_14 rfl (lv_at hl 2 rfl) ?_
  refine lv_iload_n F.x F.cd dJ17_copyOfRangeByte_15 rfl (lv_at hl 3 rfl) ?_
  refine lv_aload F.x F.cd dJ17_copyOfRangeByte_16 (lv_at hl 0 rfl) ?_
  refine lv_iconst (v := (nI 0)) F.x F.cd dJ17_copyOfRangeByte_18 (by decide) ?_
  refine lv_aload_n F.x F.cd dJ17_copyOfRangeByte_19 rfl (lv_at hl 2 rfl) ?_
  refine s_alen F hW (f4) 1 rfl (v := nI n) rfl dJ17_copyOfRangeByte_20 ?_
  refine lv_iload_n F.x F.cd dJ17_copyOfRangeByte_21 rfl (lv_at hl 3 rfl) ?_
  refine a_isub (v := (nI (n - i))) F (pk_sub (by omega)) dJ17_copyOfRangeByte_22 ?_
  refine lv_iload_n F.x F.cd dJ17_copyOfRangeByte_23 rfl (lv_at hl 1 rfl) ?_
  refine s_mmin (v := (nI (j - i))) F q452 q453 q87 q454 hl.1 (Nat.le_of_ble_eq_true rfl) (Nat.le_of_ble_eq_true rfl) (Nat.le_of_ble_eq_true rfl) (Nat.le_of_ble_eq_true rfl) ((nI_min (by omega) (by omega)).trans (by rw [show min (n - i) (j - i) = j - i by omega])) dJ17_copyOfRangeByte_24 ?_
  refine n_copyb F hW (sp := i) (dp := 0) (n := j - i) q455 q457 q456 q89 (f4) (w3) (hb_q2_) (by omega) (by omega) (by omega) (by omega) (fun x hx => hf _ (by omega)) hl.1 (Nat.le_of_ble_eq_true rfl) (Nat.le_of_ble_eq_true rfl) dJ17_copyOfRangeByte_27 (fun H locs hW => ?_)
  obtain ⟨σ5, hσ5⟩ : ∃ z, z = sset σ3 q2_ (eI g 1 (j - i) (va_cpy f (fun x9 => nI ((fun _ => 0) x9)) i 0 (j - i))) := ⟨_, rfl⟩
  have hW : Hl g σ5 H locs := by rw [hσ5]; exact hW
  have w5 : σ5 q2_ = some (eI g 1 (j - i) (va_cpy f (fun x9 => nI ((fun _ => 0) x9)) i 0 (j - i))) := by rw [hσ5]; exact sset_eq
  have f6 : σ5 v = some (eI g 1 n f) := by rw [hσ5, sset_ne (sto_ne0 hn_q2_ ev)]; exact f4
  refine lv_aload F.x F.cd dJ17_copyOfRangeByte_30 (lv_at hl 0 rfl) ?_
  have hW := Hl.norm (f' := fun x => f (i + x)) hW w5 hb_q2_ (fun x hx => by simp [va_cpy, hx])
  subst hQ
  exact s_reta F hW (Or.inr ⟨_, rfl⟩) (Or.inr ⟨_, rfl⟩) (⟨q2_, rfl, hn_q2_, hb_q2_, by rw [hσ5, hσ3, sset_sset, sset_sset]⟩) ⟨(Nat.le_of_ble_eq_true rfl), (Nat.le_of_ble_eq_true rfl)⟩ dJ17_copyOfRangeByte_32
set_option maxHeartbeats 4000000 in
theorem k_J17_copyOfRange (g : Gh) (l : Launch) (σ : Sto) (v n i j : Nat) (f : Nat → Int32) (ev : σ v = some (eI g 1 n f)) (hf : ∀ x, x < n → fits .byte (.int (f x)) = true) (hn : n < 1000) (hij : i ≤ j) (hj : j ≤ n) (h128 : j - i ≤ 128) (hb0 : i = 0 → j = n → gB g ≤ v) : Ct g l yJ17_copyOfRange cJ17_copyOfRange 3 (some (.array .byte)) ({ frames := 2, cells := 1, slots := 128, locals := 84 } : Room) [.ref v, .int (nI i), .int (nI j)] σ (fun r σ' => ∃ q, r = some (.ref q) ∧ σ q = none ∧ gB g ≤ q ∧ σ' = sset σ q (eI g 1 (j - i) (fun x => f (i + x)))) (nox) := by
  refine Ct.body (by decide) (Nat.le_of_ble_eq_true rfl) ?_
  intro p_ e_ s_ m_ args_ below_ meth_ c_ ls H locs Q F hW hl hQ
  have hl : lv_has ls 3 [(0, .ref v), (1, .int (nI i)), (2, .int (nI j))] := hl
  refine lv_iload_n F.x F.cd dJ17_copyOfRange_0 rfl (lv_at hl 1 rfl) ?_
  refine n_if_ne (a := i) (tgt := 10) F (by omega) dJ17_copyOfRange_1 (by decide) (fun c_1 => ?_) (fun c_1 => ?_)
  · refine lv_aload_n F.x F.cd dJ17_copyOfRange_10 rfl (lv_at hl 0 rfl) ?_
    refine lv_iload_n F.x F.cd dJ17_copyOfRange_11 rfl (lv_at hl 1 rfl) ?_
    refine lv_iload_n F.x F.cd dJ17_copyOfRange_12 rfl (lv_at hl 2 rfl) ?_
    refine s_callS (As := [.ref v, .int (nI i), .int (nI j)]) (rest := []) (n := 3) F hW (k_J17_copyOfRangeByte g l σ v n i j f (ev) hf (by omega) (by omega) (by omega) (by omega)) q588 q589 q88 q590 (by decide +kernel) rfl ⟨⟨Nat.le_of_ble_eq_true rfl, Nat.le_of_ble_eq_true rfl⟩, ⟨(Nat.le_of_ble_eq_true rfl), (Nat.le_of_ble_eq_true rfl)⟩⟩ (Nat.le_of_ble_eq_true rfl) hl.1 rfl dJ17_copyOfRange_13 cX_no (fun r1 σ1 H locs hp1 hW => ?_)
    obtain ⟨q_1, rfl, hq1, hb_q1, hs1⟩ := hp1
    rw [hs1] at hW
    refine W.eq (g2 := F0 m_ 16 ls (.ref q_1 :: [])) rfl ?_
    obtain ⟨σ2, hσ2⟩ : ∃ z, z = sset σ q_1 (eI g 1 (j - i) (fun x => f (i + x))) := ⟨_, rfl⟩
    have hW : Hl g σ2 H locs := by rw [hσ2]; exact hW
    have w2 : σ2 q_1 = some (eI g 1 (j - i) (fun x => f (i + x))) := by rw [hσ2]; exact sset_eq
    have f3 : σ2 v = some (eI g 1 n f) := by rw [hσ2, sset_ne (sto_ne0 hq1 ev)]; exact ev
    subst hQ
    exact s_reta F hW (Or.inr ⟨_, rfl⟩) (Or.inr ⟨_, rfl⟩) (⟨_, rfl, hq1, hb_q1, by rw [hσ2]⟩) ⟨(Nat.le_of_ble_eq_true rfl), (Nat.le_of_ble_eq_true rfl)⟩ dJ17_copyOfRange_16
  · refine lv_iload_n F.x F.cd dJ17_copyOfRange_4 rfl (lv_at hl 2 rfl) ?_
    refine lv_aload_n F.x F.cd dJ17_copyOfRange_5 rfl (lv_at hl 0 rfl) ?_
    refine s_alen F hW (ev) 1 rfl (v := nI n) rfl dJ17_copyOfRange_6 ?_
    refine n_icmp_eq (a := j) (b := n) (tgt := 17) F (by omega) (by omega) dJ17_copyOfRange_7 (by decide) (fun c_7 => ?_) (fun c_7 => ?_)
    · refine lv_aload_n F.x F.cd dJ17_copyOfRange_17 rfl (lv_at hl 0 rfl) ?_
      refine s_clone F hW (ev) (hb0 (by omega) (by omega)) (hf) q445 q446 q447 q448 q449 q450 hl.1 (Nat.le_of_ble_eq_true rfl) (Nat.le_of_ble_eq_true rfl) (Nat.le_of_ble_eq_true rfl) (Nat.le_trans (m := 128) (by show 0 + n ≤ _; omega) (Nat.le_of_ble_eq_true rfl)) dJ17_copyOfRange_18 (fun q4_ H hb_q4_ hn_q4_ hW => ?_)
      refine W.widen (k := 1) (n := 128) (Nat.le_of_ble_eq_true rfl) (by show 0 + n ≤ _; omega) ?_
      obtain ⟨σ5, hσ5⟩ : ∃ z, z = sset σ q4_ (eI g 1 n f) := ⟨_, rfl⟩
      have hW : Hl g σ5 H locs := by rw [hσ5]; exact hW
      have w5 : σ5 q4_ = some (eI g 1 n f) := by rw [hσ5]; exact sset_eq
      have f6 : σ5 v = some (eI g 1 n f) := by rw [hσ5, sset_ne (sto_ne0 hn_q4_ ev)]; exact ev
      refine s_castB F hW (w5) q451 dJ17_copyOfRange_21 ?_
      have hW := Hl.norm (f' := fun x => f (i + x)) hW w5 hb_q4_ (fun x hx => by rw [show i = 0 by omega, Nat.zero_add])
      subst hQ
      exact s_reta F hW (Or.inr ⟨_, rfl⟩) (Or.inr ⟨_, rfl⟩) (⟨q4_, rfl, hn_q4_, hb_q4_, by rw [hσ5, sset_sset, show j - i = n by omega]⟩) ⟨(Nat.le_of_ble_eq_true rfl), (Nat.le_of_ble_eq_true rfl)⟩ dJ17_copyOfRange_24
    · refine lv_aload_n F.x F.cd dJ17_copyOfRange_10 rfl (lv_at hl 0 rfl) ?_
      refine lv_iload_n F.x F.cd dJ17_copyOfRange_11 rfl (lv_at hl 1 rfl) ?_
      refine lv_iload_n F.x F.cd dJ17_copyOfRange_12 rfl (lv_at hl 2 rfl) ?_
      refine s_callS (As := [.ref v, .int (nI i), .int (nI j)]) (rest := []) (n := 3) F hW (k_J17_copyOfRangeByte g l σ v n i j f (ev) hf (by omega) (by omega) (by omega) (by omega)) q588 q589 q88 q590 (by decide +kernel) rfl ⟨⟨Nat.le_of_ble_eq_true rfl, Nat.le_of_ble_eq_true rfl⟩, ⟨(Nat.le_of_ble_eq_true rfl), (Nat.le_of_ble_eq_true rfl)⟩⟩ (Nat.le_of_ble_eq_true rfl) hl.1 rfl dJ17_copyOfRange_13 cX_no (fun r7 σ7 H locs hp7 hW => ?_)
      obtain ⟨q_7, rfl, hq7, hb_q7, hs7⟩ := hp7
      rw [hs7] at hW
      refine W.eq (g2 := F0 m_ 16 ls (.ref q_7 :: [])) rfl ?_
      obtain ⟨σ8, hσ8⟩ : ∃ z, z = sset σ q_7 (eI g 1 (j - i) (fun x => f (i + x))) := ⟨_, rfl⟩
      have hW : Hl g σ8 H locs := by rw [hσ8]; exact hW
      have w8 : σ8 q_7 = some (eI g 1 (j - i) (fun x => f (i + x))) := by rw [hσ8]; exact sset_eq
      have f9 : σ8 v = some (eI g 1 n f) := by rw [hσ8, sset_ne (sto_ne0 hq7 ev)]; exact ev
      subst hQ
      exact s_reta F hW (Or.inr ⟨_, rfl⟩) (Or.inr ⟨_, rfl⟩) (⟨_, rfl, hq7, hb_q7, by rw [hσ8]⟩) ⟨(Nat.le_of_ble_eq_true rfl), (Nat.le_of_ble_eq_true rfl)⟩ dJ17_copyOfRange_16
set_option maxHeartbeats 4000000 in
theorem k_J17_copyOf (g : Gh) (l : Launch) (σ : Sto) (v n k : Nat) (f : Nat → Int32) (ev : σ v = some (eI g 1 n f)) (hf : ∀ x, x < n → fits .byte (.int (f x)) = true) (hn : n < k) (hk : k ≤ 300) : Ct g l yJ17_copyOf cJ17_copyOf 3 (some (.array .byte)) ({ frames := 1, cells := 1, slots := 300, locals := 60 } : Room) [.ref v, .int (nI k)] σ (fun r σ' => ∃ q, r = some (.ref q) ∧ σ q = none ∧ gB g ≤ q ∧ σ' = sset σ q (eI g 1 k (va_cpy f (fun _ => 0) 0 0 n))) (nox) := by
  refine Ct.body (by decide) (Nat.le_of_ble_eq_true rfl) ?_
  intro p_ e_ s_ m_ args_ below_ meth_ c_ ls H locs Q F hW hl hQ
  have hl : lv_has ls 3 [(0, .ref v), (1, .int (nI k))] := hl
  refine lv_iload_n F.x F.cd dJ17_copyOf_0 rfl (lv_at hl 1 rfl) ?_
  refine lv_aload_n F.x F.cd dJ17_copyOf_1 rfl (lv_at hl 0 rfl) ?_
  refine s_alen F hW (ev) 1 rfl (v := nI n) rfl dJ17_copyOf_2 ?_
  refine n_icmp_ne (a := k) (b := n) (tgt := 14) F (by omega) (by omega) dJ17_copyOf_3 (by decide) (fun c_3 => ?_) (fun c_3 => ?_)
  · refine lv_iload_n F.x F.cd dJ17_copyOf_14 rfl (lv_at hl 1 rfl) ?_
    refine s_newa F hW 1 (N := k) (atype := .byte) (ty := .byte) rfl rfl rfl q239 (k, .inl (fun _ => 0)) rfl (nI_pos (by omega)) (nI_clamp (by omega)) (by show _ * 1 ≤ _; omega) (Nat.le_of_ble_eq_true rfl) (Nat.le_trans (m := 300) (by show 0 + k ≤ _; omega) (Nat.le_of_ble_eq_true rfl)) dJ17_copyOf_15 (fun q1_ H hb_q1_ hn_q1_ hW => ?_)
    refine W.widen (k := 1) (n := 300) (Nat.le_of_ble_eq_true rfl) (by show 0 + k ≤ _; omega) ?_
    obtain ⟨σ2, hσ2⟩ : ∃ z, z = sset σ q1_ (eI g 1 k (fun x9 => nI ((fun _ => 0) x9))) := ⟨_, rfl⟩
    have hW : Hl g σ2 H locs := by rw [hσ2]; exact hW
    have w2 : σ2 q1_ = some (eI g 1 k (fun x9 => nI ((fun _ => 0) x9))) := by rw [hσ2]; exact sset_eq
    have f3 : σ2 v = some (eI g 1 n f) := by rw [hσ2, sset_ne (sto_ne0 hn_q1_ ev)]; exact ev
    refine lv_astore_n (lv' := [(2, .ref q1_), (0, .ref v), (1, .int (nI k))]) F.x F.cd dJ17_copyOf_17 rfl hl (by decide) rfl (fun ls hl => ?_)
    refine lv_aload_n F.x F.cd dJ17_copyOf_18 rfl (lv_at hl 1 rfl) ?_
    refine lv_iconst (v := (nI 0)) F.x F.cd dJ17_copyOf_19 (by decide) ?_
    refine lv_aload_n F.x F.cd dJ17_copyOf_20 rfl (lv_at hl 0 rfl) ?_
    refine lv_iconst (v := (nI 0)) F.x F.cd dJ17_copyOf_21 (by decide) ?_
    refine lv_aload_n F.x F.cd dJ17_copyOf_22 rfl (lv_at hl 1 rfl) ?_
    refine s_alen F hW (f3) 1 rfl (v := nI n) rfl dJ17_copyOf_23 ?_
    refine lv_iload_n F.x F.cd dJ17_copyOf_24 rfl (lv_at hl 2 rfl) ?_
    refine s_mmin (v := (nI n)) F q452 q453 q87 q454 hl.1 (Nat.le_of_ble_eq_true rfl) (Nat.le_of_ble_eq_true rfl) (Nat.le_of_ble_eq_true rfl) (Nat.le_of_ble_eq_true rfl) ((nI_min (by omega) (by omega)).trans (by rw [show min n k = n by omega])) dJ17_copyOf_25 ?_
    refine n_copyb F hW (sp := 0) (dp := 0) (n := n) q455 q457 q456 q89 (f3) (w2) (hb_q1_) (by omega) (by omega) (by omega) (by omega) (fun x hx => hf _ (by omega)) hl.1 (Nat.le_of_ble_eq_true rfl) (Nat.le_of_ble_eq_true rfl) dJ17_copyOf_28 (fun H locs hW => ?_)
    obtain ⟨σ4, hσ4⟩ : ∃ z, z = sset σ2 q1_ (eI g 1 k (va_cpy f (fun x9 => nI ((fun _ => 0) x9)) 0 0 n)) := ⟨_, rfl⟩
    have hW : Hl g σ4 H locs := by rw [hσ4]; exact hW
    have w4 : σ4 q1_ = some (eI g 1 k (va_cpy f (fun x9 => nI ((fun _ => 0) x9)) 0 0 n)) := by rw [hσ4]; exact sset_eq
    have f5 : σ4 v = some (eI g 1 n f) := by rw [hσ4, sset_ne (sto_ne0 hn_q1_ ev)]; exact f3
    refine lv_aload_n F.x F.cd dJ17_copyOf_31 rfl (lv_at hl 0 rfl) ?_
    subst hQ
    exact s_reta F hW (Or.inr ⟨_, rfl⟩) (Or.inr ⟨_, rfl⟩) (⟨q1_, rfl, hn_q1_, hb_q1_, by rw [hσ4, hσ2, sset_sset] <;> rfl⟩) ⟨(Nat.le_of_ble_eq_true rfl), (Nat.le_of_ble_eq_true rfl)⟩ dJ17_copyOf_32
  · exact absurd c_3 (by omega)
set_option maxHeartbeats 4000000 in
theorem k_J7_init_3 (g : Gh) (l : Launch) (σ : Sto) (a v : Nat) (e0 : σ a = some (.inr (6, [.null, .int (nI 0), .int (nI 0), .int (nI 0)]))) (b0 : gB g ≤ a) : Ct g l yJ7_init_3 cJ7_init_3 3 none ({ frames := 1, cells := 0, slots := 0, locals := 24 } : Room) [.ref a, .ref v, .int (nI 0)] σ (fun r σ' => r = none ∧ σ' = sset σ a (.inr (6, [.ref v, .int (nI 0), .int (nI 0), .int (nI 0)]))) (nox) := by
  refine Ct.body (by decide) (Nat.le_of_ble_eq_true rfl) ?_
  intro p_ e_ s_ m_ args_ below_ meth_ c_ ls H locs Q F hW hl hQ
  have hl : lv_has ls 3 [(0, .ref a), (1, .ref v), (2, .int (nI 0))] := hl
  refine lv_aload_n F.x F.cd dJ7_init_3_0 rfl (lv_at hl 0 rfl) ?_
  refine W.objInit F.x F.cd F.ow (F.ts _ q570) (F.ts _ q123) (F.ts _ q124) rfl (by rw [F.ml]; exact hl.1) rfl dJ7_init_3_1 (Nat.le_of_ble_eq_true rfl) (Nat.le_of_ble_eq_true rfl) ?_
  refine W.eq (g2 := F0 m_ 4 ls ([])) rfl ?_
  refine lv_aload_n F.x F.cd dJ7_init_3_4 rfl (lv_at hl 0 rfl) ?_
  refine lv_aload_n F.x F.cd dJ7_init_3_5 rfl (lv_at hl 1 rfl) ?_
  refine s_putF F hW (ci := 6) (C := RJ7) (T := TJ7) (N := 4) (v := .ref v) (ty := (.array .byte)) (e0) (b0) rfl in_J7 tyJ7_ok nmJ7 0 (by decide) q647 (fun _ h9 => h9) rfl rfl (by decide +kernel) rfl rfl (Nat.le_of_ble_eq_true rfl) dJ7_init_3_6 (fun H locs hW => ?_)
  obtain ⟨σ2, hσ2⟩ : ∃ z, z = sset σ a (.inr (6, [.ref v, .int (nI 0), .int (nI 0), .int (nI 0)])) := ⟨_, rfl⟩
  have hW : Hl g σ2 H locs := by rw [hσ2]; exact hW
  have w2 : σ2 a = some (.inr (6, [.ref v, .int (nI 0), .int (nI 0), .int (nI 0)])) := by rw [hσ2]; exact sset_eq
  refine lv_aload_n F.x F.cd dJ7_init_3_9 rfl (lv_at hl 0 rfl) ?_
  refine lv_iload_n F.x F.cd dJ7_init_3_10 rfl (lv_at hl 2 rfl) ?_
  refine s_putF F hW (ci := 6) (C := RJ7) (T := TJ7) (N := 4) (v := .int (nI 0)) (ty := .byte) (w2) (b0) rfl in_J7 tyJ7_ok nmJ7 1 (by decide) q648 (fun _ h9 => h9) rfl rfl (by decide +kernel) (by decide) (by decide) (Nat.le_of_ble_eq_true rfl) dJ7_init_3_11 (fun H locs hW => ?_)
  obtain ⟨σ4, hσ4⟩ : ∃ z, z = sset σ2 a (.inr (6, [.ref v, .int (nI 0), .int (nI 0), .int (nI 0)])) := ⟨_, rfl⟩
  have hW : Hl g σ4 H locs := by rw [hσ4]; exact hW
  have w4 : σ4 a = some (.inr (6, [.ref v, .int (nI 0), .int (nI 0), .int (nI 0)])) := by rw [hσ4]; exact sset_eq
  subst hQ
  exact s_retv F hW (⟨rfl, by rw [hσ4, hσ2]; simp only [sset_sset]⟩) ⟨(Nat.le_of_ble_eq_true rfl), (Nat.le_of_ble_eq_true rfl)⟩ dJ7_init_3_14
set_option maxHeartbeats 4000000 in
theorem k_J18_newString (g : Gh) (l : Launch) (σ : Sto) (v : Nat) (L : List Nat) (i j : Nat) (ev : σ v = some (eI g 1 L.length (bts L))) (hL : ∀ c ∈ L, c < 128) (hn : L.length < 1000) (hij : i < j) (hj : j ≤ L.length) (hne : ¬ (i = 0 ∧ j = L.length)) (h128 : j - i ≤ 128) : Ct g l yJ18_newString cJ18_newString 3 (some (.object "java/lang/String")) ({ frames := 3, cells := 2, slots := 132, locals := 106 } : Room) [.ref v, .int (nI i), .int (nI (j - i))] σ (fun r σ' => ∃ a', r = some (.ref a') ∧ gB g ≤ a' ∧ σ a' = none ∧ IsStr g σ' a' ((L.take j).drop i) ∧ Ext σ σ') (nox) := by
  refine Ct.body (by decide) (Nat.le_of_ble_eq_true rfl) ?_
  intro p_ e_ s_ m_ args_ below_ meth_ c_ ls H locs Q F hW hl hQ
  have hl : lv_has ls 3 [(0, .ref v), (1, .int (nI i)), (2, .int (nI (j - i)))] := hl
  refine lv_iload_n F.x F.cd dJ18_newString_0 rfl (lv_at hl 2 rfl) ?_
  refine n_if_ne (a := j - i) (tgt := 7) F (by omega) dJ18_newString_1 (by decide) (fun c_1 => ?_) (fun c_1 => ?_)
  · refine s_new F hW 6 (C := RJ7) (T := TJ7) (N := 4) (fs := [.null, .int (nI 0), .int (nI 0), .int (nI 0)]) rfl in_J7 tyJ7_ok q2752 q563 q77 (fun j hj => by rcases (show j = 0 ∨ j = 1 ∨ j = 2 ∨ j = 3 by omega) with rfl | rfl | rfl | rfl <;> rfl) (Nat.le_of_ble_eq_true rfl) (Nat.le_of_ble_eq_true rfl) dJ18_newString_7 (fun q1_ H hb_q1_ hn_q1_ hW => ?_)
    obtain ⟨σ2, hσ2⟩ : ∃ z, z = sset σ q1_ (.inr (6, [.null, .int (nI 0), .int (nI 0), .int (nI 0)])) := ⟨_, rfl⟩
    have hW : Hl g σ2 H locs := by rw [hσ2]; exact hW
    have w2 : σ2 q1_ = some (.inr (6, [.null, .int (nI 0), .int (nI 0), .int (nI 0)])) := by rw [hσ2]; exact sset_eq
    have f3 : σ2 v = some (eI g 1 L.length (bts L)) := by rw [hσ2, sset_ne (sto_ne0 hn_q1_ ev)]; exact ev
    refine lv_dup F.x F.cd dJ18_newString_10 rfl ?_
    refine lv_aload_n F.x F.cd dJ18_newString_11 rfl (lv_at hl 0 rfl) ?_
    refine lv_iload_n F.x F.cd dJ18_newString_12 rfl (lv_at hl 1 rfl) ?_
    refine lv_iload_n F.x F.cd dJ18_newString_13 rfl (lv_at hl 1 rfl) ?_
    refine lv_iload_n F.x F.cd dJ18_newString_14 rfl (lv_at hl 2 rfl) ?_
    refine a_iadd (v := (nI j)) F ((nI_add _ _).trans (by rw [show i + (j - i) = j by omega])) dJ18_newString_15 ?_
    refine s_callS (As := [.ref v, .int (nI i), .int (nI j)]) (rest := [.ref q1_, .ref q1_]) (n := 3) F hW (k_J17_copyOfRange g l σ2 v L.length i j (bts L) (f3) (fun x _ => fit_byte _ (bts_lt hL x)) (by omega) (by omega) (by omega) (by omega) (by first | (intro h8 h9; omega) | (intro _ _; assumption))) q2753 q586 q88 q587 (by decide +kernel) rfl ⟨⟨Nat.le_of_ble_eq_true rfl, Nat.le_of_ble_eq_true rfl⟩, ⟨(Nat.le_of_ble_eq_true rfl), (Nat.le_of_ble_eq_true rfl)⟩⟩ (Nat.le_of_ble_eq_true rfl) hl.1 rfl dJ18_newString_16 cX_no (fun r4 σ4 H locs hp4 hW => ?_)
    obtain ⟨q_4, rfl, hq4, hb_q4, hs4⟩ := hp4
    rw [hs4] at hW
    refine W.eq (g2 := F0 m_ 19 ls (.ref q_4 :: .ref q1_ :: .ref q1_ :: [])) rfl ?_
    obtain ⟨σ5, hσ5⟩ : ∃ z, z = sset σ2 q_4 (eI g 1 (j - i) (fun x => (bts L) (i + x))) := ⟨_, rfl⟩
    have hW : Hl g σ5 H locs := by rw [hσ5]; exact hW
    have w5 : σ5 q_4 = some (eI g 1 (j - i) (fun x => (bts L) (i + x))) := by rw [hσ5]; exact sset_eq
    have f6 : σ5 q1_ = some (.inr (6, [.null, .int (nI 0), .int (nI 0), .int (nI 0)])) := by rw [hσ5, sset_ne (sto_ne0 hq4 w2)]; exact w2
    have f7 : σ5 v = some (eI g 1 L.length (bts L)) := by rw [hσ5, sset_ne (sto_ne0 hq4 f3)]; exact f3
    refine lv_iconst (v := (nI 0)) F.x F.cd dJ18_newString_19 (by decide) ?_
    refine s_callI (As := [.ref q_4, .int (nI 0)]) (rest := [.ref q1_]) (n := 2) F hW (k_J7_init_3 g l σ5 q1_ q_4 (f6) (hb_q1_)) q2754 q2755 q77 q2756 rfl (by decide +kernel) rfl ⟨⟨Nat.le_of_ble_eq_true rfl, Nat.le_of_ble_eq_true rfl⟩, ⟨(Nat.le_of_ble_eq_true rfl), (Nat.le_of_ble_eq_true rfl)⟩⟩ (Nat.le_of_ble_eq_true rfl) hl.1 rfl dJ18_newString_20 cX_no (fun r8 σ8 H locs hp8 hW => ?_)
    obtain ⟨rfl, hσ8⟩ := hp8
    refine W.eq (g2 := F0 m_ 23 ls (.ref q1_ :: [])) rfl ?_
    have w9 : σ8 q1_ = some (.inr (6, [.ref q_4, .int (nI 0), .int (nI 0), .int (nI 0)])) := by rw [hσ8]; exact sset_eq
    have f10 : σ8 v = some (eI g 1 L.length (bts L)) := by rw [hσ8, sset_ne (sto_ne0 hn_q1_ ev)]; exact f7
    have f11 : σ8 q_4 = some (eI g 1 (j - i) (fun x => (bts L) (i + x))) := by rw [hσ8, sset_ne (Ne.symm (sto_ne0 hq4 w2))]; exact w5
    have hW := Hl.norm (f' := bts ((L.take j).drop i)) hW f11 hb_q4 (fun x hx => congrArg nI (sub_get (by omega) hx).symm)
    subst hQ
    exact s_reta F hW (Or.inl ⟨_, rfl⟩) (Or.inr ⟨_, rfl⟩) (⟨q1_, rfl, hb_q1_, hn_q1_, ⟨q_4, _, _, by rw [sset_ne (sto_ne f11 w9 (by simp))]; exact w9, Or.inl ⟨rfl, rfl⟩, by rw [sset_eq, sub_len (by omega)], sub_lt hL⟩, Ext.set (by rw [hσ8, hσ5, hσ2]; exact ((Ext.refl.set hn_q1_).set (extn hn_q1_ hq4 hσ2)).set hn_q1_) (extn hn_q1_ hq4 hσ2)⟩) ⟨(Nat.le_of_ble_eq_true rfl), (Nat.le_of_ble_eq_true rfl)⟩ dJ18_newString_23
  · exact absurd c_1 (by omega)
set_option maxHeartbeats 4000000 in
theorem k_J7_substring (g : Gh) (l : Launch) (σ : Sto) (a : Nat) (L : List Nat) (i j : Nat) (hs : IsStr g σ a L) (hn : L.length < 1000) (hij : i < j) (hj : j ≤ L.length) (hne : ¬ (i = 0 ∧ j = L.length)) (h128 : j - i ≤ 128) : Ct g l yJ7_substring cJ7_substring 5 (some (.object "java/lang/String")) ({ frames := 4, cells := 2, slots := 132, locals := 128 } : Room) [.ref a, .int (nI i), .int (nI j)] σ (fun r σ' => ∃ a', r = some (.ref a') ∧ gB g ≤ a' ∧ σ a' = none ∧ IsStr g σ' a' ((L.take j).drop i) ∧ Ext σ σ') (nox) := by
  refine Ct.body (by decide) (Nat.le_of_ble_eq_true rfl) ?_
  intro p_ e_ s_ m_ args_ below_ meth_ c_ ls H locs Q F hW hl hQ
  have hl : lv_has ls 5 [(0, .ref a), (1, .int (nI i)), (2, .int (nI j))] := hl
  obtain ⟨v, h, zz, e0, hh, ev, hL⟩ := id hs
  refine lv_aload_n F.x F.cd dJ7_substring_0 rfl (lv_at hl 0 rfl) ?_
  refine s_callV (As := []) (rest := []) (C := RJ7) (T := TJ7) (N := 4) (n := 0) F hW (k_J7_length g l σ a L  hs ) (e0) rfl q2704 q490 q491 q77 q492 rfl (by decide +kernel) rfl ⟨⟨Nat.le_of_ble_eq_true rfl, Nat.le_of_ble_eq_true rfl⟩, ⟨(Nat.le_of_ble_eq_true rfl), (Nat.le_of_ble_eq_true rfl)⟩⟩ (Nat.le_of_ble_eq_true rfl) hl.1 rfl dJ7_substring_1 cX_no (fun r1 σ1 H locs hp1 hW => ?_)
  obtain ⟨rfl, hs1⟩ := hp1
  rw [hs1] at hW
  refine W.eq (g2 := F0 m_ 4 ls (.int (nI L.length) :: [])) rfl ?_
  refine lv_istore_n (lv' := [(3, .int (nI L.length)), (0, .ref a), (1, .int (nI i)), (2, .int (nI j))]) F.x F.cd dJ7_substring_4 rfl hl (by decide) rfl (fun ls hl => ?_)
  refine lv_iload_n F.x F.cd dJ7_substring_5 rfl (lv_at hl 2 rfl) ?_
  refine lv_iload_n F.x F.cd dJ7_substring_6 rfl (lv_at hl 3 rfl) ?_
  refine lv_iload_n F.x F.cd dJ7_substring_7 rfl (lv_at hl 0 rfl) ?_
  refine s_callS (As := [.int (nI i), .int (nI j), .int (nI L.length)]) (rest := []) (n := 3) F hW (k_J7_checkBoundsBeginEnd g l σ i j L.length (by omega) (by omega) (by omega)) q2747 q473 q77 q474 (by decide +kernel) rfl ⟨⟨Nat.le_of_ble_eq_true rfl, Nat.le_of_ble_eq_true rfl⟩, ⟨(Nat.le_of_ble_eq_true rfl), (Nat.le_of_ble_eq_true rfl)⟩⟩ (Nat.le_of_ble_eq_true rfl) hl.1 rfl dJ7_substring_8 cX_no (fun r2 σ2 H locs hp2 hW => ?_)
  obtain ⟨rfl, hs2⟩ := hp2
  rw [hs2] at hW
  refine W.eq (g2 := F0 m_ 11 ls ([])) rfl ?_
  refine lv_iload_n F.x F.cd dJ7_substring_11 rfl (lv_at hl 2 rfl) ?_
  refine n_if_ne (a := i) (tgt := 22) F (by omega) dJ7_substring_12 (by decide) (fun c_12 => ?_) (fun c_12 => ?_)
  · refine lv_iload_n F.x F.cd dJ7_substring_22 rfl (lv_at hl 3 rfl) ?_
    refine lv_iload_n F.x F.cd dJ7_substring_23 rfl (lv_at hl 2 rfl) ?_
    refine a_isub (v := (nI (j - i))) F (pk_sub (by omega)) dJ7_substring_24 ?_
    refine lv_istore (lv' := [(4, .int (nI (j - i))), (3, .int (nI L.length)), (0, .ref a), (1, .int (nI i)), (2, .int (nI j))]) F.x F.cd dJ7_substring_25 hl (by decide) rfl (fun ls hl => ?_)
    refine lv_aload_n F.x F.cd dJ7_substring_27 rfl (lv_at hl 2 rfl) ?_
    refine s_callV (As := []) (rest := []) (C := RJ7) (T := TJ7) (N := 4) (n := 0) F hW (k_J7_isLatin1 g l σ a L  hs ) (e0) rfl q1126 q1127 q1128 q77 q1129 rfl (by decide +kernel) rfl ⟨⟨Nat.le_of_ble_eq_true rfl, Nat.le_of_ble_eq_true rfl⟩, ⟨(Nat.le_of_ble_eq_true rfl), (Nat.le_of_ble_eq_true rfl)⟩⟩ (Nat.le_of_ble_eq_true rfl) hl.1 rfl dJ7_substring_28 cX_no (fun r3 σ3 H locs hp3 hW => ?_)
    obtain ⟨rfl, hs3⟩ := hp3
    rw [hs3] at hW
    refine W.eq (g2 := F0 m_ 31 ls (.int (nI 1) :: [])) rfl ?_
    refine n_if_eq (a := 1) (tgt := 47) F (by omega) dJ7_substring_31 (by decide) (fun c_31 => absurd c_31 (by decide)) (fun c_31 => ?_)
    refine lv_aload_n F.x F.cd dJ7_substring_34 rfl (lv_at hl 2 rfl) ?_
    refine s_get F hW (ci := 6) (C := RJ7) (T := TJ7) (N := 4) (v := .ref v) (e0) rfl in_J7 0 (by decide) q647 (fun _ h9 => h9) rfl dJ7_substring_35 ?_
    refine lv_iload_n F.x F.cd dJ7_substring_38 rfl (lv_at hl 3 rfl) ?_
    refine lv_iload F.x F.cd dJ7_substring_39 (lv_at hl 0 rfl) ?_
    refine s_callS (As := [.ref v, .int (nI i), .int (nI (j - i))]) (rest := []) (n := 3) F hW (k_J18_newString g l σ v L i j (ev) hL (by omega) (by omega) (by omega) (by omega) (by omega)) q2748 q2749 q90 q2750 (by decide +kernel) rfl ⟨⟨Nat.le_of_ble_eq_true rfl, Nat.le_of_ble_eq_true rfl⟩, ⟨(Nat.le_of_ble_eq_true rfl), (Nat.le_of_ble_eq_true rfl)⟩⟩ (Nat.le_of_ble_eq_true rfl) hl.1 rfl dJ7_substring_41 cX_no (fun r4 σ4 H locs hp4 hW => ?_)
    obtain ⟨a_4, rfl, hba, hna, hst, hxt⟩ := hp4
    refine W.eq (g2 := F0 m_ 44 ls (.ref a_4 :: [])) rfl ?_
    refine lv_goto (tgt := 57) F.x F.cd dJ7_substring_44 (by decide) ?_
    subst hQ
    exact s_reta F hW (Or.inl ⟨_, rfl⟩) (Or.inr ⟨_, rfl⟩) (⟨_, rfl, hba, hna, hst, hxt⟩) ⟨(Nat.le_of_ble_eq_true rfl), (Nat.le_of_ble_eq_true rfl)⟩ dJ7_substring_57
  · refine lv_iload_n F.x F.cd dJ7_substring_15 rfl (lv_at hl 3 rfl) ?_
    refine lv_iload_n F.x F.cd dJ7_substring_16 rfl (lv_at hl 0 rfl) ?_
    refine n_icmp_ne (a := j) (b := L.length) (tgt := 22) F (by omega) (by omega) dJ7_substring_17 (by decide) (fun c_17 => ?_) (fun c_17 => ?_)
    · refine lv_iload_n F.x F.cd dJ7_substring_22 rfl (lv_at hl 3 rfl) ?_
      refine lv_iload_n F.x F.cd dJ7_substring_23 rfl (lv_at hl 2 rfl) ?_
      refine a_isub (v := (nI (j - i))) F (pk_sub (by omega)) dJ7_substring_24 ?_
      refine lv_istore (lv' := [(4, .int (nI (j - i))), (3, .int (nI L.length)), (0, .ref a), (1, .int (nI i)), (2, .int (nI j))]) F.x F.cd dJ7_substring_25 hl (by decide) rfl (fun ls hl => ?_)
      refine lv_aload_n F.x F.cd dJ7_substring_27 rfl (lv_at hl 2 rfl) ?_
      refine s_callV (As := []) (rest := []) (C := RJ7) (T := TJ7) (N := 4) (n := 0) F hW (k_J7_isLatin1 g l σ a L  hs ) (e0) rfl q1126 q1127 q1128 q77 q1129 rfl (by decide +kernel) rfl ⟨⟨Nat.le_of_ble_eq_true rfl, Nat.le_of_ble_eq_true rfl⟩, ⟨(Nat.le_of_ble_eq_true rfl), (Nat.le_of_ble_eq_true rfl)⟩⟩ (Nat.le_of_ble_eq_true rfl) hl.1 rfl dJ7_substring_28 cX_no (fun r5 σ5 H locs hp5 hW => ?_)
      obtain ⟨rfl, hs5⟩ := hp5
      rw [hs5] at hW
      refine W.eq (g2 := F0 m_ 31 ls (.int (nI 1) :: [])) rfl ?_
      refine n_if_eq (a := 1) (tgt := 47) F (by omega) dJ7_substring_31 (by decide) (fun c_31 => absurd c_31 (by decide)) (fun c_31 => ?_)
      refine lv_aload_n F.x F.cd dJ7_substring_34 rfl (lv_at hl 2 rfl) ?_
      refine s_get F hW (ci := 6) (C := RJ7) (T := TJ7) (N := 4) (v := .ref v) (e0) rfl in_J7 0 (by decide) q647 (fun _ h9 => h9) rfl dJ7_substring_35 ?_
      refine lv_iload_n F.x F.cd dJ7_substring_38 rfl (lv_at hl 3 rfl) ?_
      refine lv_iload F.x F.cd dJ7_substring_39 (lv_at hl 0 rfl) ?_
      refine s_callS (As := [.ref v, .int (nI i), .int (nI (j - i))]) (rest := []) (n := 3) F hW (k_J18_newString g l σ v L i j (ev) hL (by omega) (by omega) (by omega) (by omega) (by omega)) q2748 q2749 q90 q2750 (by decide +kernel) rfl ⟨⟨Nat.le_of_ble_eq_true rfl, Nat.le_of_ble_eq_true rfl⟩, ⟨(Nat.le_of_ble_eq_true rfl), (Nat.le_of_ble_eq_true rfl)⟩⟩ (Nat.le_of_ble_eq_true rfl) hl.1 rfl dJ7_substring_41 cX_no (fun r6 σ6 H locs hp6 hW => ?_)
      obtain ⟨a_6, rfl, hba, hna, hst, hxt⟩ := hp6
      refine W.eq (g2 := F0 m_ 44 ls (.ref a_6 :: [])) rfl ?_
      refine lv_goto (tgt := 57) F.x F.cd dJ7_substring_44 (by decide) ?_
      subst hQ
      exact s_reta F hW (Or.inl ⟨_, rfl⟩) (Or.inr ⟨_, rfl⟩) (⟨_, rfl, hba, hna, hst, hxt⟩) ⟨(Nat.le_of_ble_eq_true rfl), (Nat.le_of_ble_eq_true rfl)⟩ dJ7_substring_57
    · exact absurd c_17 (by omega)
