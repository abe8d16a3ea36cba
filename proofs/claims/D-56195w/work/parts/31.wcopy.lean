/-! ===== Works: a new one, a copy ===== -/
set_option maxRecDepth 100000
/-- nothing that was there has changed but h -/
def Ex1 (σ σ' : Sto) (h : Nat) : Prop := ∀ a, σ a ≠ none → a ≠ h → σ' a = σ a
theorem Ex1.refl {σ : Sto} {h : Nat} : Ex1 σ σ h := fun _ _ _ => rfl
theorem Ex1.new {σ σ1 : Sto} {h q : Nat} {e : va_E} (hx : Ex1 σ σ1 h) (h0 : σ q = none) : Ex1 σ (sset σ1 q e) h := fun a ha hh => by
  rw [sset_ne (by rintro rfl; exact ha h0)]
  exact hx a ha hh
theorem Ex1.self {σ σ1 : Sto} {h : Nat} {e : va_E} (hx : Ex1 σ σ1 h) : Ex1 σ (sset σ1 h e) h := fun a ha hh => by
  rw [sset_ne hh]
  exact hx a ha hh
theorem Ex1.none {σ σ1 : Sto} {h q : Nat} {e e1 : va_E} (hx : Ex1 σ σ1 h) (h0 : σ1 q = none) (hh : σ h = some e) (hh1 : σ1 h = some e1) : σ q = none := by
  cases hq : σ q with
  | none => rfl
  | some x =>
    by_cases e9 : q = h
    · rw [e9, hh1] at h0
      cases h0
    · rw [hx q (by rw [hq]; simp) e9, hq] at h0
      cases h0
theorem fo_init {g : Gh} {σ : Sto} {L : Nat → Nat} {h q1 q2 : Nat} (hB : gA g 0 < gB g) (e0 : L 0 = h) (e1 : L 1 = q1) (e2 : L 2 = q2) (e3 : L 3 = gA g 0) (e4 : L 4 = gA g 0) (h1 : σ q1 = none) (h2 : σ q2 = none) : ∀ (v : Nat → Nat) (a : Nat), Fo g L (cw v 0 0) a → a = h ∨ σ a = none := by
  intro v a ⟨hb, ha⟩
  rw [cw_0.1, cw_0.2, e0, e1, e2, e3, e4] at ha
  rcases ha with e | e | e | e | e | ⟨t, ht, -⟩ | ⟨t, ht, -⟩
  · exact Or.inl e
  · exact Or.inr (by rw [e]; exact h1)
  · exact Or.inr (by rw [e]; exact h2)
  · omega
  · omega
  · omega
  · omega
/-- a copy's end: the four numbers -/
theorem cp_end {g : Gh} {σ σ' : Sto} {L v : Nat → Nat} (h : IsWorks g σ L (cw v (v 0) (v 1))) (hσ : σ' = sset σ (L 0) (.inr (1, [.ref (L 1), .ref (L 2), .int (nI (v 2)), .int (nI (v 3)), .int (nI (v 4)), .int (nI (v 5))]))) (h8 : v 0 ≤ 8) : IsWorks g σ' L v := by
  have h1 := h.setW (t := v 2) (p := v 3) (d := v 4) (s := v 5) (by rw [cw_0.1]; exact h8)
  rw [cw_end, ← hσ] at h1
  exact h1
set_option maxHeartbeats 4000000 in
theorem k_X2_init (g : Gh) (l : Launch) (σ : Sto) (h : Nat) (e0 : σ h = some (.inr (1, [.null, .null, .int (nI 0), .int (nI 0), .int (nI 0), .int (nI 0)]))) (b0 : gB g ≤ h) : Ct g l yX2_init cX2_init 1 none ({ frames := 4, cells := 2, slots := 6, locals := 84 } : Room) [.ref h] σ (fun r σ' => r = none ∧ ∃ L' : Nat → Nat, L' 0 = h ∧ (∀ v, IsWorks g σ' L' (cw v 0 0)) ∧ (∀ (v : Nat → Nat) (a : Nat), Fo g L' (cw v 0 0) a → a = h ∨ σ a = none) ∧ Ex1 σ σ' h) (nox) := by
  refine Ct.body (by decide) (Nat.le_of_ble_eq_true rfl) ?_
  intro p_ e_ s_ m_ args_ below_ meth_ c_ ls H locs Q F hW hl hQ
  have hl : lv_has ls 1 [(0, .ref h)] := hl
  have hB9 : gA g 0 < gB g := F.cs.2.2.2.2.2.2.2.2 _ (by rw [F.cs.2.1]; simp)
  refine lv_aload_n F.x F.cd dX2_init_0 rfl (lv_at hl 0 rfl) ?_
  refine W.objInit F.x F.cd F.ow (F.ts _ q130) (F.ts _ q123) (F.ts _ q124) rfl (by rw [F.ml]; exact hl.1) rfl dX2_init_1 (Nat.le_of_ble_eq_true rfl) (Nat.le_of_ble_eq_true rfl) ?_
  refine W.eq (g2 := F0 m_ 4 ls ([])) rfl ?_
  refine lv_aload_n F.x F.cd dX2_init_4 rfl (lv_at hl 0 rfl) ?_
  refine s_new F hW 2 (C := RJ2) (T := TJ2) (N := 3) (fs := [.int (nI 0), .null, .int (nI 0)]) rfl in_J2 tyJ2_ok q131 q132 q72 (fun j hj => by rcases (show j = 0 ∨ j = 1 ∨ j = 2 by omega) with rfl | rfl | rfl <;> rfl) (Nat.le_of_ble_eq_true rfl) (Nat.le_of_ble_eq_true rfl) dX2_init_5 (fun q1_ H hb_q1_ hn_q1_ hW => ?_)
  obtain ⟨σ2, hσ2⟩ : ∃ z, z = sset σ q1_ (.inr (2, [.int (nI 0), .null, .int (nI 0)])) := ⟨_, rfl⟩
  have hW : Hl g σ2 H locs := by rw [hσ2]; exact hW
  have w2 : σ2 q1_ = some (.inr (2, [.int (nI 0), .null, .int (nI 0)])) := by rw [hσ2]; exact sset_eq
  have f3 : σ2 h = some (.inr (1, [.null, .null, .int (nI 0), .int (nI 0), .int (nI 0), .int (nI 0)])) := by rw [hσ2, sset_ne (sto_ne0 hn_q1_ e0)]; exact e0
  have hn1 : σ q1_ = none := hn_q1_
  refine lv_dup F.x F.cd dX2_init_8 rfl ?_
  refine s_callI (As := []) (rest := [.ref q1_, .ref h]) (n := 0) F hW (k_J2_init g l σ2 q1_ (w2) (hb_q1_)) q133 q134 q72 q135 rfl (by decide +kernel) rfl ⟨⟨Nat.le_of_ble_eq_true rfl, Nat.le_of_ble_eq_true rfl⟩, ⟨(Nat.le_of_ble_eq_true rfl), (Nat.le_of_ble_eq_true rfl)⟩⟩ (Nat.le_of_ble_eq_true rfl) hl.1 rfl dX2_init_9 cX_no (fun r4 σ4 H locs hp4 hW => ?_)
  obtain ⟨rfl, hσ4⟩ := hp4
  refine W.eq (g2 := F0 m_ 12 ls (.ref q1_ :: .ref h :: [])) rfl ?_
  have w5 : σ4 q1_ = some (.inr (2, [.int (nI 0), .ref (gA g 0), .int (nI 0)])) := by rw [hσ4]; exact sset_eq
  have f6 : σ4 h = some (.inr (1, [.null, .null, .int (nI 0), .int (nI 0), .int (nI 0), .int (nI 0)])) := by rw [hσ4, sset_ne (sto_ne0 hn_q1_ e0)]; exact f3
  refine s_putF F hW (ci := 1) (C := RX2) (T := TX2) (N := 6) (v := .ref q1_) (ty := (.object "java/util/List")) (f6) (b0) rfl in_X2 tyX2_ok nmX2 0 (by decide) q159 (fun _ h9 => h9) rfl rfl (by decide +kernel) rfl rfl (Nat.le_of_ble_eq_true rfl) dX2_init_12 (fun H locs hW => ?_)
  obtain ⟨σ8, hσ8⟩ : ∃ z, z = sset σ4 h (.inr (1, [.ref q1_, .null, .int (nI 0), .int (nI 0), .int (nI 0), .int (nI 0)])) := ⟨_, rfl⟩
  have hW : Hl g σ8 H locs := by rw [hσ8]; exact hW
  have w8 : σ8 h = some (.inr (1, [.ref q1_, .null, .int (nI 0), .int (nI 0), .int (nI 0), .int (nI 0)])) := by rw [hσ8]; exact sset_eq
  have f9 : σ8 q1_ = some (.inr (2, [.int (nI 0), .ref (gA g 0), .int (nI 0)])) := by rw [hσ8, sset_ne (Ne.symm (sto_ne0 hn_q1_ e0))]; exact w5
  have hx15 : Ex1 σ σ8 h := by rw [hσ8, hσ4, hσ2]; exact ((Ex1.refl.new hn1).new hn1).self
  refine lv_aload_n F.x F.cd dX2_init_15 rfl (lv_at hl 0 rfl) ?_
  refine s_new F hW 2 (C := RJ2) (T := TJ2) (N := 3) (fs := [.int (nI 0), .null, .int (nI 0)]) rfl in_J2 tyJ2_ok q131 q132 q72 (fun j hj => by rcases (show j = 0 ∨ j = 1 ∨ j = 2 by omega) with rfl | rfl | rfl <;> rfl) (Nat.le_of_ble_eq_true rfl) (Nat.le_of_ble_eq_true rfl) dX2_init_16 (fun q10_ H hb_q10_ hn_q10_ hW => ?_)
  obtain ⟨σ11, hσ11⟩ : ∃ z, z = sset σ8 q10_ (.inr (2, [.int (nI 0), .null, .int (nI 0)])) := ⟨_, rfl⟩
  have hW : Hl g σ11 H locs := by rw [hσ11]; exact hW
  have w11 : σ11 q10_ = some (.inr (2, [.int (nI 0), .null, .int (nI 0)])) := by rw [hσ11]; exact sset_eq
  have f12 : σ11 h = some (.inr (1, [.ref q1_, .null, .int (nI 0), .int (nI 0), .int (nI 0), .int (nI 0)])) := by rw [hσ11, sset_ne (sto_ne0 hn_q10_ w8)]; exact w8
  have f13 : σ11 q1_ = some (.inr (2, [.int (nI 0), .ref (gA g 0), .int (nI 0)])) := by rw [hσ11, sset_ne (sto_ne0 hn_q10_ f9)]; exact f9
  have hn2 : σ q10_ = none := hx15.none hn_q10_ e0 w8
  refine lv_dup F.x F.cd dX2_init_19 rfl ?_
  refine s_callI (As := []) (rest := [.ref q10_, .ref h]) (n := 0) F hW (k_J2_init g l σ11 q10_ (w11) (hb_q10_)) q133 q134 q72 q135 rfl (by decide +kernel) rfl ⟨⟨Nat.le_of_ble_eq_true rfl, Nat.le_of_ble_eq_true rfl⟩, ⟨(Nat.le_of_ble_eq_true rfl), (Nat.le_of_ble_eq_true rfl)⟩⟩ (Nat.le_of_ble_eq_true rfl) hl.1 rfl dX2_init_20 cX_no (fun r14 σ14 H locs hp14 hW => ?_)
  obtain ⟨rfl, hσ14⟩ := hp14
  refine W.eq (g2 := F0 m_ 23 ls (.ref q10_ :: .ref h :: [])) rfl ?_
  have w15 : σ14 q10_ = some (.inr (2, [.int (nI 0), .ref (gA g 0), .int (nI 0)])) := by rw [hσ14]; exact sset_eq
  have f16 : σ14 h = some (.inr (1, [.ref q1_, .null, .int (nI 0), .int (nI 0), .int (nI 0), .int (nI 0)])) := by rw [hσ14, sset_ne (sto_ne0 hn_q10_ w8)]; exact f12
  have f17 : σ14 q1_ = some (.inr (2, [.int (nI 0), .ref (gA g 0), .int (nI 0)])) := by rw [hσ14, sset_ne (sto_ne0 hn_q10_ f9)]; exact f13
  refine s_putF F hW (ci := 1) (C := RX2) (T := TX2) (N := 6) (v := .ref q10_) (ty := (.object "java/util/List")) (f16) (b0) rfl in_X2 tyX2_ok nmX2 1 (by decide) q162 (fun _ h9 => h9) rfl rfl (by decide +kernel) rfl rfl (Nat.le_of_ble_eq_true rfl) dX2_init_23 (fun H locs hW => ?_)
  obtain ⟨σ19, hσ19⟩ : ∃ z, z = sset σ14 h (.inr (1, [.ref q1_, .ref q10_, .int (nI 0), .int (nI 0), .int (nI 0), .int (nI 0)])) := ⟨_, rfl⟩
  have hW : Hl g σ19 H locs := by rw [hσ19]; exact hW
  have w19 : σ19 h = some (.inr (1, [.ref q1_, .ref q10_, .int (nI 0), .int (nI 0), .int (nI 0), .int (nI 0)])) := by rw [hσ19]; exact sset_eq
  have f20 : σ19 q1_ = some (.inr (2, [.int (nI 0), .ref (gA g 0), .int (nI 0)])) := by rw [hσ19, sset_ne (Ne.symm (sto_ne0 hn_q1_ e0))]; exact f17
  have f21 : σ19 q10_ = some (.inr (2, [.int (nI 0), .ref (gA g 0), .int (nI 0)])) := by rw [hσ19, sset_ne (Ne.symm (sto_ne0 hn_q10_ w8))]; exact w15
  subst hQ
  exact s_retv F hW (⟨rfl, fun j => if j = 0 then h else if j = 1 then q1_ else if j = 2 then q10_ else gA g 0, rfl, fun v => isWorks0 w19 b0 f20 hb_q1_ f21 hb_q10_ rfl rfl (hW.1.old F.cs F.cs.2.1) (sto_ne0 hn_q10_ f9), fo_init hB9 rfl rfl rfl rfl rfl hn1 hn2, by rw [hσ19, hσ14, hσ11, hσ8, hσ4, hσ2]; exact (((((Ex1.refl.new hn1).new hn1).self).new hn2).new hn2).self⟩) ⟨(Nat.le_of_ble_eq_true rfl), (Nat.le_of_ble_eq_true rfl)⟩ dX2_init_26
set_option maxHeartbeats 4000000 in
theorem k_X2_copy (g : Gh) (l : Launch) (σ : Sto) (L v : Nat → Nat) (hWk : IsWorks g σ L v) (hI : Inv v) : Ct g l yX2_copy cX2_copy 3 (some (.object "FilterWaterworks$Works")) ({ frames := 8, cells := 43, slots := 1920, locals := 287 } : Room) [.ref (L 0)] σ (fun r σ' => ∃ q L', r = some (.ref q) ∧ L' 0 = q ∧ IsWorks g σ' L' v ∧ Ext σ σ' ∧ ∀ a, Fo g L' v a → σ a = none) (nox) := by
  refine Ct.body (by decide) (Nat.le_of_ble_eq_true rfl) ?_
  intro p_ e_ s_ m_ args_ below_ meth_ c_ ls H locs Q F hW hl hQ
  have hl : lv_has ls 3 [(0, .ref (L 0))] := hl
  have hT := hWk.2.2.1
  have hP := hWk.2.2.2.1
  obtain ⟨mcT, nT, fT, eT, bT, -⟩ := id hT
  obtain ⟨mcP, nP, fP, eP, bP, -⟩ := id hP
  have hv0 := hI.1
  have hv1 := hI.2.1
  refine s_new F hW 1 (C := RX2) (T := TX2) (N := 6) (fs := [.null, .null, .int (nI 0), .int (nI 0), .int (nI 0), .int (nI 0)]) rfl in_X2 tyX2_ok q936 q126 q69 (fun j hj => by rcases (show j = 0 ∨ j = 1 ∨ j = 2 ∨ j = 3 ∨ j = 4 ∨ j = 5 by omega) with rfl | rfl | rfl | rfl | rfl | rfl <;> rfl) (Nat.le_of_ble_eq_true rfl) (Nat.le_of_ble_eq_true rfl) dX2_copy_0 (fun q1_ H hb_q1_ hn_q1_ hW => ?_)
  obtain ⟨σ2, hσ2⟩ : ∃ z, z = sset σ q1_ (.inr (1, [.null, .null, .int (nI 0), .int (nI 0), .int (nI 0), .int (nI 0)])) := ⟨_, rfl⟩
  have hW : Hl g σ2 H locs := by rw [hσ2]; exact hW
  have w2 : σ2 q1_ = some (.inr (1, [.null, .null, .int (nI 0), .int (nI 0), .int (nI 0), .int (nI 0)])) := by rw [hσ2]; exact sset_eq
  have f3 : σ2 (L 0) = some (.inr (1, [.ref (L 1), .ref (L 2), .int (nI (v 2)), .int (nI (v 3)), .int (nI (v 4)), .int (nI (v 5))])) := by rw [hσ2, sset_ne (sto_ne0 hn_q1_ hWk.1)]; exact hWk.1
  have f4 : σ2 (L 1) = some (.inr (2, [.int mcT, .ref (L 3), .int (nI (v 0))])) := by rw [hσ2, sset_ne (sto_ne0 hn_q1_ eT)]; exact eT
  have j5 := IsList.new (e := .inr (1, [.null, .null, .int (nI 0), .int (nI 0), .int (nI 0), .int (nI 0)])) (hT) (hn_q1_)
  rw [← hσ2] at j5
  have f6 : σ2 (L 2) = some (.inr (2, [.int mcP, .ref (L 4), .int (nI (v 1))])) := by rw [hσ2, sset_ne (sto_ne0 hn_q1_ eP)]; exact eP
  have j7 := IsList.new (e := .inr (1, [.null, .null, .int (nI 0), .int (nI 0), .int (nI 0), .int (nI 0)])) (hP) (hn_q1_)
  rw [← hσ2] at j7
  refine lv_dup F.x F.cd dX2_copy_3 rfl ?_
  refine s_callI (As := []) (rest := [.ref q1_]) (n := 0) F hW (k_X2_init g l σ2 q1_ (w2) (hb_q1_)) q937 q128 q69 q129 rfl (by decide +kernel) rfl ⟨⟨Nat.le_of_ble_eq_true rfl, Nat.le_of_ble_eq_true rfl⟩, ⟨(Nat.le_of_ble_eq_true rfl), (Nat.le_of_ble_eq_true rfl)⟩⟩ (Nat.le_of_ble_eq_true rfl) hl.1 rfl dX2_copy_4 cX_no (fun r8 σ8 H locs hp8 hW => ?_)
  obtain ⟨rfl, Lc, hLc, hWc, hFc, hXc⟩ := hp8
  refine W.eq (g2 := F0 m_ 7 ls (.ref q1_ :: [])) rfl ?_
  have hXt : Ext σ σ8 := fun a ha => by
    have hq9 : a ≠ q1_ := by rintro rfl; exact ha hn_q1_
    rw [hXc a (by rw [hσ2, sset_ne hq9]; exact ha) hq9, hσ2, sset_ne hq9]
  have hFt : ∀ a, Fo g Lc (cw v 0 0) a → σ a = none := fun a ha => by
    rcases hFc v a ha with h9 | h9
    · rw [h9]; exact hn_q1_
    · by_cases hq9 : a = q1_
      · rw [hq9]; exact hn_q1_
      · rw [hσ2, sset_ne hq9] at h9; exact h9
  refine lv_astore_n (lv' := [(1, .ref q1_), (0, .ref (L 0))]) F.x F.cd dX2_copy_7 rfl hl (by decide) rfl (fun ls hl => ?_)
  refine lv_iconst (v := (nI 0)) F.x F.cd dX2_copy_8 (by decide) ?_
  refine lv_istore_n (lv' := [(2, .int (nI 0)), (1, .ref q1_), (0, .ref (L 0))]) F.x F.cd dX2_copy_9 rfl hl (by decide) rfl (fun ls hl => ?_)
  have loop10 : ∀ (n : Nat) (k : Nat) (σk : Sto) (Lk : Nat → Nat), k + n = v 0 → IsWorks g σk Lk (cw v k 0) → Lk 0 = q1_ → (∀ a, Fo g Lk (cw v k 0) a → σ a = none) → Ext σ σk → ∀ (H : Heap) (locs : List Loc) (ls : Array Slot), Hl g σk H locs → lv_has ls 3 [(0, .ref (L 0)), (1, .ref q1_), (2, .int (nI k))] → W p_ l e_ ({ frames := 8, cells := 43, slots := 1920, locals := 287 } : Room) s_ m_ args_ below_ meth_ c_ H locs (3 + 2 * k) (12 + 93 * k) Q (F0 m_ 10 ls ([])) := by
    intro n
    induction n with
    | zero =>
      intro k σk Lk hkn hWn hLk hFk hXk H locs ls hW hl
      have hq0 : σk q1_ = some (wrkE Lk (cw v k 0)) := by rw [← hLk]; exact hWn.1
      have  hWs := hWk.ext hXk
      have hW00 := hW
      have hT_s := hWs.2.2.1
      have hP_s := hWs.2.2.2.1
      obtain ⟨mcT_s, nT_s, fT_s, eT_s, bT_s, -⟩ := id hT_s
      obtain ⟨mcP_s, nP_s, fP_s, eP_s, bP_s, -⟩ := id hP_s
      have hv0_s := hI.1
      have hv1_s := hI.2.1
      have z0 : cw v k 0 0 = k := cw_0.1
      have z1 : cw v k 0 1 = 0 := cw_0.2
      have hT_c := hWn.2.2.1
      have hP_c := hWn.2.2.2.1
      obtain ⟨mcT_c, nT_c, fT_c, eT_c, bT_c, -⟩ := id hT_c
      obtain ⟨mcP_c, nP_c, fP_c, eP_c, bP_c, -⟩ := id hP_c
      refine W.widen (k := 19) (n := 756) (by omega) (by omega) ?_
      refine lv_iload_n F.x F.cd dX2_copy_10 rfl (lv_at hl 2 rfl) ?_
      refine lv_aload_n F.x F.cd dX2_copy_11 rfl (lv_at hl 0 rfl) ?_
      refine s_get F hW (ci := 1) (C := RX2) (T := TX2) (N := 6) (v := .ref (L 1)) (hWs.1) rfl in_X2 0 (by decide) q159 (fun _ h9 => h9) rfl dX2_copy_12 ?_
      refine s_callF (As := []) (rest := [.int (nI k)]) (C := RJ2) (T := TJ2) (N := 3) (n := 0) F hW (k_J2_size g l σk _ _ _ _ hT_s) (eT_s) rfl (List.mem_of_getElem? (i := 0) rfl) q317 q272 q274 q72 q276 (by decide +kernel) rfl ⟨⟨Nat.le_of_ble_eq_true rfl, Nat.le_of_ble_eq_true rfl⟩, ⟨(Nat.le_of_ble_eq_true rfl), (Nat.le_of_ble_eq_true rfl)⟩⟩ (Nat.le_of_ble_eq_true rfl) hl.1 rfl dX2_copy_15 cX_no (fun r9 σ9 H locs hp9 hW => ?_)
      obtain ⟨rfl, hs9⟩ := hp9
      rw [hs9] at hW
      refine W.eq (g2 := F0 m_ 20 ls (.int (nI (v 0)) :: .int (nI k) :: [])) rfl ?_
      refine n_icmp_ge (a := k) (b := v 0) (tgt := 55) F (by omega) (by omega) dX2_copy_20 (by decide) (fun c_20 => ?_) (fun c_20 => ?_)
      · refine lv_iconst (v := (nI 0)) F.x F.cd dX2_copy_55 (by decide) ?_
        refine lv_istore_n (lv' := [(2, .int (nI 0)), (0, .ref (L 0)), (1, .ref q1_)]) F.x F.cd dX2_copy_56 rfl hl (by decide) rfl (fun ls hl => ?_)
        have loop57 : ∀ (z : Nat) (j : Nat) (σj : Sto) (Lk : Nat → Nat), j + z = v 1 → IsWorks g σj Lk (cw v (v 0) j) → Lk 0 = q1_ → (∀ a, Fo g Lk (cw v (v 0) j) a → σ a = none) → Ext σ σj → ∀ (H : Heap) (locs : List Loc) (ls : Array Slot), Hl g σj H locs → lv_has ls 3 [(0, .ref (L 0)), (1, .ref q1_), (2, .int (nI j))] → W p_ l e_ ({ frames := 8, cells := 43, slots := 1920, locals := 287 } : Room) s_ m_ args_ below_ meth_ c_ H locs (19 + 2 * j) (756 + 97 * j) Q (F0 m_ 57 ls ([])) := by
          intro z
          induction z with
          | zero =>
            intro j σj Lk hkz hWn hLk hFk hXk H locs ls hW hl
            have hq0 : σj q1_ = some (wrkE Lk (cw v (v 0) j)) := by rw [← hLk]; exact hWn.1
            have  hWs := hWk.ext hXk
            have hW00 := hW
            have hT_s := hWs.2.2.1
            have hP_s := hWs.2.2.2.1
            obtain ⟨mcT_s, nT_s, fT_s, eT_s, bT_s, -⟩ := id hT_s
            obtain ⟨mcP_s, nP_s, fP_s, eP_s, bP_s, -⟩ := id hP_s
            have hv0_s := hI.1
            have hv1_s := hI.2.1
            have z0 : cw v (v 0) j 0 = (v 0) := cw_0.1
            have z1 : cw v (v 0) j 1 = j := cw_0.2
            have hT_c := hWn.2.2.1
            have hP_c := hWn.2.2.2.1
            obtain ⟨mcT_c, nT_c, fT_c, eT_c, bT_c, -⟩ := id hT_c
            obtain ⟨mcP_c, nP_c, fP_c, eP_c, bP_c, -⟩ := id hP_c
            refine W.widen (k := 43) (n := 1920) (by omega) (by omega) ?_
            refine lv_iload_n F.x F.cd dX2_copy_57 rfl (lv_at hl 2 rfl) ?_
            refine lv_aload_n F.x F.cd dX2_copy_58 rfl (lv_at hl 0 rfl) ?_
            refine s_get F hW (ci := 1) (C := RX2) (T := TX2) (N := 6) (v := .ref (L 2)) (hWs.1) rfl in_X2 1 (by decide) q162 (fun _ h9 => h9) rfl dX2_copy_59 ?_
            refine s_callF (As := []) (rest := [.int (nI j)]) (C := RJ2) (T := TJ2) (N := 3) (n := 0) F hW (k_J2_size g l σj _ _ _ _ hP_s) (eP_s) rfl (List.mem_of_getElem? (i := 0) rfl) q317 q272 q274 q72 q276 (by decide +kernel) rfl ⟨⟨Nat.le_of_ble_eq_true rfl, Nat.le_of_ble_eq_true rfl⟩, ⟨(Nat.le_of_ble_eq_true rfl), (Nat.le_of_ble_eq_true rfl)⟩⟩ (Nat.le_of_ble_eq_true rfl) hl.1 rfl dX2_copy_62 cX_no (fun r10 σ10 H locs hp10 hW => ?_)
            obtain ⟨rfl, hs10⟩ := hp10
            rw [hs10] at hW
            refine W.eq (g2 := F0 m_ 67 ls (.int (nI (v 1)) :: .int (nI j) :: [])) rfl ?_
            refine n_icmp_ge (a := j) (b := v 1) (tgt := 102) F (by omega) (by omega) dX2_copy_67 (by decide) (fun c_67 => ?_) (fun c_67 => ?_)
            · have hjv : j = v 1 := by omega
              rw [hjv] at hWn hFk
              refine lv_aload_n F.x F.cd dX2_copy_102 rfl (lv_at hl 1 rfl) ?_
              refine lv_aload_n F.x F.cd dX2_copy_103 rfl (lv_at hl 0 rfl) ?_
              refine s_get F hW (ci := 1) (C := RX2) (T := TX2) (N := 6) (v := .int (nI (v 2))) (hWs.1) rfl in_X2 2 (by decide) q166 (fun _ h9 => h9) rfl dX2_copy_104 ?_
              refine s_put F hW (ci := 1) (C := RX2) (T := TX2) (N := 6) (v := .int (nI (v 2))) (ty := .int) (hq0) (hb_q1_) rfl in_X2 tyX2_ok nmX2 2 (by decide) q166 (fun _ h9 => h9) rfl (by decide +kernel) rfl rfl (Nat.le_of_ble_eq_true rfl) dX2_copy_107 (fun H locs hW => ?_)
              obtain ⟨σ12, hσ12⟩ : ∃ z, z = sset σj q1_ (.inr (1, [.ref (Lk 1), .ref (Lk 2), .int (nI (v 2)), .int (nI ((cw v (v 0) j) 3)), .int (nI ((cw v (v 0) j) 4)), .int (nI ((cw v (v 0) j) 5))])) := ⟨_, rfl⟩
              have hW : Hl g σ12 H locs := by rw [hσ12]; exact hW
              have w12 : σ12 q1_ = some (.inr (1, [.ref (Lk 1), .ref (Lk 2), .int (nI (v 2)), .int (nI ((cw v (v 0) j) 3)), .int (nI ((cw v (v 0) j) 4)), .int (nI ((cw v (v 0) j) 5))])) := by rw [hσ12]; exact sset_eq
              have f13 : σ12 (L 0) = some (.inr (1, [.ref (L 1), .ref (L 2), .int (nI (v 2)), .int (nI (v 3)), .int (nI (v 4)), .int (nI (v 5))])) := by rw [hσ12, sset_ne (sto_ne0 hn_q1_ hWk.1)]; exact hWs.1
              have f14 : σ12 (L 1) = some (.inr (2, [.int mcT_s, .ref (L 3), .int (nI (v 0))])) := by rw [hσ12, sset_ne (sto_ne hq0 eT_s (by simp))]; exact eT_s
              have j15 := IsList.setO (e := .inr (1, [.ref (Lk 1), .ref (Lk 2), .int (nI (v 2)), .int (nI ((cw v (v 0) j) 3)), .int (nI ((cw v (v 0) j) 4)), .int (nI ((cw v (v 0) j) 5))])) (hT_s) (hq0) (by decide)
              rw [← hσ12] at j15
              have f16 : σ12 (L 2) = some (.inr (2, [.int mcP_s, .ref (L 4), .int (nI (v 1))])) := by rw [hσ12, sset_ne (sto_ne hq0 eP_s (by simp))]; exact eP_s
              have j17 := IsList.setO (e := .inr (1, [.ref (Lk 1), .ref (Lk 2), .int (nI (v 2)), .int (nI ((cw v (v 0) j) 3)), .int (nI ((cw v (v 0) j) 4)), .int (nI ((cw v (v 0) j) 5))])) (hP_s) (hq0) (by decide)
              rw [← hσ12] at j17
              have f18 : σ12 (Lk 1) = some (.inr (2, [.int mcT_c, .ref (Lk 3), .int (nI ((cw v (v 0) j) 0))])) := by rw [hσ12, sset_ne (sto_ne hq0 eT_c (by simp))]; exact eT_c
              have j19 := IsList.setO (e := .inr (1, [.ref (Lk 1), .ref (Lk 2), .int (nI (v 2)), .int (nI ((cw v (v 0) j) 3)), .int (nI ((cw v (v 0) j) 4)), .int (nI ((cw v (v 0) j) 5))])) (hT_c) (hq0) (by decide)
              rw [← hσ12] at j19
              have f20 : σ12 (Lk 2) = some (.inr (2, [.int mcP_c, .ref (Lk 4), .int (nI ((cw v (v 0) j) 1))])) := by rw [hσ12, sset_ne (sto_ne hq0 eP_c (by simp))]; exact eP_c
              have j21 := IsList.setO (e := .inr (1, [.ref (Lk 1), .ref (Lk 2), .int (nI (v 2)), .int (nI ((cw v (v 0) j) 3)), .int (nI ((cw v (v 0) j) 4)), .int (nI ((cw v (v 0) j) 5))])) (hP_c) (hq0) (by decide)
              rw [← hσ12] at j21
              refine lv_aload_n F.x F.cd dX2_copy_110 rfl (lv_at hl 1 rfl) ?_
              refine lv_aload_n F.x F.cd dX2_copy_111 rfl (lv_at hl 0 rfl) ?_
              refine s_get F hW (ci := 1) (C := RX2) (T := TX2) (N := 6) (v := .int (nI (v 3))) (f13) rfl in_X2 3 (by decide) q168 (fun _ h9 => h9) rfl dX2_copy_112 ?_
              refine s_put F hW (ci := 1) (C := RX2) (T := TX2) (N := 6) (v := .int (nI (v 3))) (ty := .int) (w12) (hb_q1_) rfl in_X2 tyX2_ok nmX2 3 (by decide) q168 (fun _ h9 => h9) rfl (by decide +kernel) rfl rfl (Nat.le_of_ble_eq_true rfl) dX2_copy_115 (fun H locs hW => ?_)
              obtain ⟨σ23, hσ23⟩ : ∃ z, z = sset σ12 q1_ (.inr (1, [.ref (Lk 1), .ref (Lk 2), .int (nI (v 2)), .int (nI (v 3)), .int (nI ((cw v (v 0) j) 4)), .int (nI ((cw v (v 0) j) 5))])) := ⟨_, rfl⟩
              have hW : Hl g σ23 H locs := by rw [hσ23]; exact hW
              have w23 : σ23 q1_ = some (.inr (1, [.ref (Lk 1), .ref (Lk 2), .int (nI (v 2)), .int (nI (v 3)), .int (nI ((cw v (v 0) j) 4)), .int (nI ((cw v (v 0) j) 5))])) := by rw [hσ23]; exact sset_eq
              have f24 : σ23 (L 0) = some (.inr (1, [.ref (L 1), .ref (L 2), .int (nI (v 2)), .int (nI (v 3)), .int (nI (v 4)), .int (nI (v 5))])) := by rw [hσ23, sset_ne (sto_ne0 hn_q1_ hWk.1)]; exact f13
              have f25 : σ23 (L 1) = some (.inr (2, [.int mcT_s, .ref (L 3), .int (nI (v 0))])) := by rw [hσ23, sset_ne (sto_ne w12 f14 (by simp))]; exact f14
              have j26 := IsList.setO (e := .inr (1, [.ref (Lk 1), .ref (Lk 2), .int (nI (v 2)), .int (nI (v 3)), .int (nI ((cw v (v 0) j) 4)), .int (nI ((cw v (v 0) j) 5))])) (j15) (w12) (by decide)
              rw [← hσ23] at j26
              have f27 : σ23 (L 2) = some (.inr (2, [.int mcP_s, .ref (L 4), .int (nI (v 1))])) := by rw [hσ23, sset_ne (sto_ne w12 f16 (by simp))]; exact f16
              have j28 := IsList.setO (e := .inr (1, [.ref (Lk 1), .ref (Lk 2), .int (nI (v 2)), .int (nI (v 3)), .int (nI ((cw v (v 0) j) 4)), .int (nI ((cw v (v 0) j) 5))])) (j17) (w12) (by decide)
              rw [← hσ23] at j28
              have f29 : σ23 (Lk 1) = some (.inr (2, [.int mcT_c, .ref (Lk 3), .int (nI ((cw v (v 0) j) 0))])) := by rw [hσ23, sset_ne (sto_ne w12 f18 (by simp))]; exact f18
              have j30 := IsList.setO (e := .inr (1, [.ref (Lk 1), .ref (Lk 2), .int (nI (v 2)), .int (nI (v 3)), .int (nI ((cw v (v 0) j) 4)), .int (nI ((cw v (v 0) j) 5))])) (j19) (w12) (by decide)
              rw [← hσ23] at j30
              have f31 : σ23 (Lk 2) = some (.inr (2, [.int mcP_c, .ref (Lk 4), .int (nI ((cw v (v 0) j) 1))])) := by rw [hσ23, sset_ne (sto_ne w12 f20 (by simp))]; exact f20
              have j32 := IsList.setO (e := .inr (1, [.ref (Lk 1), .ref (Lk 2), .int (nI (v 2)), .int (nI (v 3)), .int (nI ((cw v (v 0) j) 4)), .int (nI ((cw v (v 0) j) 5))])) (j21) (w12) (by decide)
              rw [← hσ23] at j32
              refine lv_aload_n F.x F.cd dX2_copy_118 rfl (lv_at hl 1 rfl) ?_
              refine lv_aload_n F.x F.cd dX2_copy_119 rfl (lv_at hl 0 rfl) ?_
              refine s_get F hW (ci := 1) (C := RX2) (T := TX2) (N := 6) (v := .int (nI (v 4))) (f24) rfl in_X2 4 (by decide) q170 (fun _ h9 => h9) rfl dX2_copy_120 ?_
              refine s_put F hW (ci := 1) (C := RX2) (T := TX2) (N := 6) (v := .int (nI (v 4))) (ty := .int) (w23) (hb_q1_) rfl in_X2 tyX2_ok nmX2 4 (by decide) q170 (fun _ h9 => h9) rfl (by decide +kernel) rfl rfl (Nat.le_of_ble_eq_true rfl) dX2_copy_123 (fun H locs hW => ?_)
              obtain ⟨σ34, hσ34⟩ : ∃ z, z = sset σ23 q1_ (.inr (1, [.ref (Lk 1), .ref (Lk 2), .int (nI (v 2)), .int (nI (v 3)), .int (nI (v 4)), .int (nI ((cw v (v 0) j) 5))])) := ⟨_, rfl⟩
              have hW : Hl g σ34 H locs := by rw [hσ34]; exact hW
              have w34 : σ34 q1_ = some (.inr (1, [.ref (Lk 1), .ref (Lk 2), .int (nI (v 2)), .int (nI (v 3)), .int (nI (v 4)), .int (nI ((cw v (v 0) j) 5))])) := by rw [hσ34]; exact sset_eq
              have f35 : σ34 (L 0) = some (.inr (1, [.ref (L 1), .ref (L 2), .int (nI (v 2)), .int (nI (v 3)), .int (nI (v 4)), .int (nI (v 5))])) := by rw [hσ34, sset_ne (sto_ne0 hn_q1_ hWk.1)]; exact f24
              have f36 : σ34 (L 1) = some (.inr (2, [.int mcT_s, .ref (L 3), .int (nI (v 0))])) := by rw [hσ34, sset_ne (sto_ne w23 f25 (by simp))]; exact f25
              have j37 := IsList.setO (e := .inr (1, [.ref (Lk 1), .ref (Lk 2), .int (nI (v 2)), .int (nI (v 3)), .int (nI (v 4)), .int (nI ((cw v (v 0) j) 5))])) (j26) (w23) (by decide)
              rw [← hσ34] at j37
              have f38 : σ34 (L 2) = some (.inr (2, [.int mcP_s, .ref (L 4), .int (nI (v 1))])) := by rw [hσ34, sset_ne (sto_ne w23 f27 (by simp))]; exact f27
              have j39 := IsList.setO (e := .inr (1, [.ref (Lk 1), .ref (Lk 2), .int (nI (v 2)), .int (nI (v 3)), .int (nI (v 4)), .int (nI ((cw v (v 0) j) 5))])) (j28) (w23) (by decide)
              rw [← hσ34] at j39
              have f40 : σ34 (Lk 1) = some (.inr (2, [.int mcT_c, .ref (Lk 3), .int (nI ((cw v (v 0) j) 0))])) := by rw [hσ34, sset_ne (sto_ne w23 f29 (by simp))]; exact f29
              have j41 := IsList.setO (e := .inr (1, [.ref (Lk 1), .ref (Lk 2), .int (nI (v 2)), .int (nI (v 3)), .int (nI (v 4)), .int (nI ((cw v (v 0) j) 5))])) (j30) (w23) (by decide)
              rw [← hσ34] at j41
              have f42 : σ34 (Lk 2) = some (.inr (2, [.int mcP_c, .ref (Lk 4), .int (nI ((cw v (v 0) j) 1))])) := by rw [hσ34, sset_ne (sto_ne w23 f31 (by simp))]; exact f31
              have j43 := IsList.setO (e := .inr (1, [.ref (Lk 1), .ref (Lk 2), .int (nI (v 2)), .int (nI (v 3)), .int (nI (v 4)), .int (nI ((cw v (v 0) j) 5))])) (j32) (w23) (by decide)
              rw [← hσ34] at j43
              refine lv_aload_n F.x F.cd dX2_copy_126 rfl (lv_at hl 1 rfl) ?_
              refine lv_aload_n F.x F.cd dX2_copy_127 rfl (lv_at hl 0 rfl) ?_
              refine s_get F hW (ci := 1) (C := RX2) (T := TX2) (N := 6) (v := .int (nI (v 5))) (f35) rfl in_X2 5 (by decide) q172 (fun _ h9 => h9) rfl dX2_copy_128 ?_
              refine s_put F hW (ci := 1) (C := RX2) (T := TX2) (N := 6) (v := .int (nI (v 5))) (ty := .int) (w34) (hb_q1_) rfl in_X2 tyX2_ok nmX2 5 (by decide) q172 (fun _ h9 => h9) rfl (by decide +kernel) rfl rfl (Nat.le_of_ble_eq_true rfl) dX2_copy_131 (fun H locs hW => ?_)
              obtain ⟨σ45, hσ45⟩ : ∃ z, z = sset σ34 q1_ (.inr (1, [.ref (Lk 1), .ref (Lk 2), .int (nI (v 2)), .int (nI (v 3)), .int (nI (v 4)), .int (nI (v 5))])) := ⟨_, rfl⟩
              have hW : Hl g σ45 H locs := by rw [hσ45]; exact hW
              have w45 : σ45 q1_ = some (.inr (1, [.ref (Lk 1), .ref (Lk 2), .int (nI (v 2)), .int (nI (v 3)), .int (nI (v 4)), .int (nI (v 5))])) := by rw [hσ45]; exact sset_eq
              have f46 : σ45 (L 0) = some (.inr (1, [.ref (L 1), .ref (L 2), .int (nI (v 2)), .int (nI (v 3)), .int (nI (v 4)), .int (nI (v 5))])) := by rw [hσ45, sset_ne (sto_ne0 hn_q1_ hWk.1)]; exact f35
              have f47 : σ45 (L 1) = some (.inr (2, [.int mcT_s, .ref (L 3), .int (nI (v 0))])) := by rw [hσ45, sset_ne (sto_ne w34 f36 (by simp))]; exact f36
              have j48 := IsList.setO (e := .inr (1, [.ref (Lk 1), .ref (Lk 2), .int (nI (v 2)), .int (nI (v 3)), .int (nI (v 4)), .int (nI (v 5))])) (j37) (w34) (by decide)
              rw [← hσ45] at j48
              have f49 : σ45 (L 2) = some (.inr (2, [.int mcP_s, .ref (L 4), .int (nI (v 1))])) := by rw [hσ45, sset_ne (sto_ne w34 f38 (by simp))]; exact f38
              have j50 := IsList.setO (e := .inr (1, [.ref (Lk 1), .ref (Lk 2), .int (nI (v 2)), .int (nI (v 3)), .int (nI (v 4)), .int (nI (v 5))])) (j39) (w34) (by decide)
              rw [← hσ45] at j50
              have f51 : σ45 (Lk 1) = some (.inr (2, [.int mcT_c, .ref (Lk 3), .int (nI ((cw v (v 0) j) 0))])) := by rw [hσ45, sset_ne (sto_ne w34 f40 (by simp))]; exact f40
              have j52 := IsList.setO (e := .inr (1, [.ref (Lk 1), .ref (Lk 2), .int (nI (v 2)), .int (nI (v 3)), .int (nI (v 4)), .int (nI (v 5))])) (j41) (w34) (by decide)
              rw [← hσ45] at j52
              have f53 : σ45 (Lk 2) = some (.inr (2, [.int mcP_c, .ref (Lk 4), .int (nI ((cw v (v 0) j) 1))])) := by rw [hσ45, sset_ne (sto_ne w34 f42 (by simp))]; exact f42
              have j54 := IsList.setO (e := .inr (1, [.ref (Lk 1), .ref (Lk 2), .int (nI (v 2)), .int (nI (v 3)), .int (nI (v 4)), .int (nI (v 5))])) (j43) (w34) (by decide)
              rw [← hσ45] at j54
              refine lv_aload_n F.x F.cd dX2_copy_134 rfl (lv_at hl 1 rfl) ?_
              subst hQ
              exact s_reta F hW (Or.inl ⟨_, rfl⟩) (Or.inr ⟨_, rfl⟩) (⟨q1_, Lk, rfl, hLk, cp_end hWn (by rw [hLk]; exact (by rw [hσ45, hσ34, hσ23, hσ12, sset_sset, sset_sset, sset_sset])) hI.1, by rw [hσ45, hσ34, hσ23, hσ12, ← hLk]; exact (((hXk.set (hFk _ hWn.foW)).set (hFk _ hWn.foW)).set (hFk _ hWn.foW)).set (hFk _ hWn.foW), fun a ha => hFk a (by unfold Fo at ha ⊢; rw [cw_0.1, cw_0.2]; exact ha)⟩) ⟨(Nat.le_of_ble_eq_true rfl), (Nat.le_of_ble_eq_true rfl)⟩ dX2_copy_135
            · exact absurd c_67 (by omega)
          | succ z ih57 =>
            intro j σj Lk hkz hWn hLk hFk hXk H locs ls hW hl
            have hq0 : σj q1_ = some (wrkE Lk (cw v (v 0) j)) := by rw [← hLk]; exact hWn.1
            have  hWs := hWk.ext hXk
            have hW00 := hW
            have hT_s := hWs.2.2.1
            have hP_s := hWs.2.2.2.1
            obtain ⟨mcT_s, nT_s, fT_s, eT_s, bT_s, -⟩ := id hT_s
            obtain ⟨mcP_s, nP_s, fP_s, eP_s, bP_s, -⟩ := id hP_s
            have hv0_s := hI.1
            have hv1_s := hI.2.1
            have z0 : cw v (v 0) j 0 = (v 0) := cw_0.1
            have z1 : cw v (v 0) j 1 = j := cw_0.2
            have hT_c := hWn.2.2.1
            have hP_c := hWn.2.2.2.1
            obtain ⟨mcT_c, nT_c, fT_c, eT_c, bT_c, -⟩ := id hT_c
            obtain ⟨mcP_c, nP_c, fP_c, eP_c, bP_c, -⟩ := id hP_c
            refine lv_iload_n F.x F.cd dX2_copy_57 rfl (lv_at hl 2 rfl) ?_
            refine lv_aload_n F.x F.cd dX2_copy_58 rfl (lv_at hl 0 rfl) ?_
            refine s_get F hW (ci := 1) (C := RX2) (T := TX2) (N := 6) (v := .ref (L 2)) (hWs.1) rfl in_X2 1 (by decide) q162 (fun _ h9 => h9) rfl dX2_copy_59 ?_
            refine s_callF (As := []) (rest := [.int (nI j)]) (C := RJ2) (T := TJ2) (N := 3) (n := 0) F hW (k_J2_size g l σj _ _ _ _ hP_s) (eP_s) rfl (List.mem_of_getElem? (i := 0) rfl) q317 q272 q274 q72 q276 (by decide +kernel) rfl ⟨⟨Nat.le_of_ble_eq_true rfl, Nat.le_of_ble_eq_true rfl⟩, ⟨(by show (19 + 2 * j) + 0 ≤ 43; omega), (by show (756 + 97 * j) + 0 ≤ 1920; omega)⟩⟩ (Nat.le_of_ble_eq_true rfl) hl.1 rfl dX2_copy_62 cX_no (fun r55 σ55 H locs hp55 hW => ?_)
            obtain ⟨rfl, hs55⟩ := hp55
            rw [hs55] at hW
            refine W.eq (g2 := F0 m_ 67 ls (.int (nI (v 1)) :: .int (nI j) :: [])) rfl ?_
            refine n_icmp_ge (a := j) (b := v 1) (tgt := 102) F (by omega) (by omega) dX2_copy_67 (by decide) (fun c_67 => ?_) (fun c_67 => ?_)
            · exact absurd c_67 (by omega)
            · refine lv_aload_n F.x F.cd dX2_copy_70 rfl (lv_at hl 1 rfl) ?_
              refine s_get F hW (ci := 1) (C := RX2) (T := TX2) (N := 6) (v := .ref (Lk 2)) (hq0) rfl in_X2 1 (by decide) q162 (fun _ h9 => h9) rfl dX2_copy_71 ?_
              refine lv_aload_n F.x F.cd dX2_copy_74 rfl (lv_at hl 0 rfl) ?_
              refine s_get F hW (ci := 1) (C := RX2) (T := TX2) (N := 6) (v := .ref (L 2)) (hWs.1) rfl in_X2 1 (by decide) q162 (fun _ h9 => h9) rfl dX2_copy_75 ?_
              refine lv_iload_n F.x F.cd dX2_copy_78 rfl (lv_at hl 2 rfl) ?_
              refine s_callF (As := [.int (nI j)]) (rest := [.ref (Lk 2)]) (C := RJ2) (T := TJ2) (N := 3) (n := 1) F hW (k_J2_get g l σj _ _ _ _ j hP_s (by omega)) (eP_s) rfl (List.mem_of_getElem? (i := 1) rfl) q693 q328 q330 q72 q332 (by decide +kernel) rfl ⟨⟨Nat.le_of_ble_eq_true rfl, Nat.le_of_ble_eq_true rfl⟩, ⟨(by show (19 + 2 * j + 0) + 0 ≤ 43; omega), (by show (756 + 97 * j + 0) + 0 ≤ 1920; omega)⟩⟩ (Nat.le_of_ble_eq_true rfl) hl.1 rfl dX2_copy_79 cX_no (fun r56 σ56 H locs hp56 hW => ?_)
              obtain ⟨rfl, hs56⟩ := hp56
              rw [hs56] at hW
              refine W.eq (g2 := F0 m_ 84 ls (.ref (L (100 + j)) :: .ref (Lk 2) :: [])) rfl ?_
              refine s_cast_ F hW (C := RX5) (T := TX5) (N := 7) ((hWs.2.2.2.2.2.1 j (by omega)).1) rfl q694 dX2_copy_84 ?_
              refine s_callV (As := []) (rest := [.ref (Lk 2)]) (C := RX5) (T := TX5) (N := 7) (n := 0) F hW (k_X5_copy g l σj (L (100 + j)) (pA v j) (pB v j) (pM v j) (pV v j) (pR v j) (pD v j) (pL v j) ((hWs.2.2.2.2.2.1 j (by omega)).1)) ((hWs.2.2.2.2.2.1 j (by omega)).1) rfl q1057 q1058 q1059 q96 q1060 rfl (by decide +kernel) rfl ⟨⟨Nat.le_of_ble_eq_true rfl, Nat.le_of_ble_eq_true rfl⟩, ⟨(by show (19 + 2 * j + 0 + 0) + 1 ≤ 43; omega), (by show (756 + 97 * j + 0 + 0) + 7 ≤ 1920; omega)⟩⟩ (Nat.le_of_ble_eq_true rfl) hl.1 rfl dX2_copy_87 cX_no (fun r57 σ57 H locs hp57 hW => ?_)
              obtain ⟨q57, rfl, hq57, hb57, rfl⟩ := hp57
              refine W.eq (g2 := F0 m_ 90 ls (.ref q57 :: .ref (Lk 2) :: [])) rfl ?_
              obtain ⟨σ58, hσ58⟩ : ∃ z, z = sset σj q57 (.inr (9, [.int (nI (pA v j)), .int (nI (pB v j)), .int (nI (pM v j)), .int (nI (pV v j)), .int (nI (pR v j)), .int (nI (pD v j)), .int (nI (pL v j))])) := ⟨_, rfl⟩
              have hW : Hl g σ58 H locs := by rw [hσ58]; exact hW
              have w58 : σ58 q57 = some (.inr (9, [.int (nI (pA v j)), .int (nI (pB v j)), .int (nI (pM v j)), .int (nI (pV v j)), .int (nI (pR v j)), .int (nI (pD v j)), .int (nI (pL v j))])) := by rw [hσ58]; exact sset_eq
              have f59 : σ58 (L 0) = some (.inr (1, [.ref (L 1), .ref (L 2), .int (nI (v 2)), .int (nI (v 3)), .int (nI (v 4)), .int (nI (v 5))])) := by rw [hσ58, sset_ne (sto_ne0 hq57 hWs.1)]; exact hWs.1
              have f60 : σ58 (L 1) = some (.inr (2, [.int mcT_s, .ref (L 3), .int (nI (v 0))])) := by rw [hσ58, sset_ne (sto_ne0 hq57 eT_s)]; exact eT_s
              have j61 := IsList.new (e := .inr (9, [.int (nI (pA v j)), .int (nI (pB v j)), .int (nI (pM v j)), .int (nI (pV v j)), .int (nI (pR v j)), .int (nI (pD v j)), .int (nI (pL v j))])) (hT_s) (hq57)
              rw [← hσ58] at j61
              have f62 : σ58 (L 2) = some (.inr (2, [.int mcP_s, .ref (L 4), .int (nI (v 1))])) := by rw [hσ58, sset_ne (sto_ne0 hq57 eP_s)]; exact eP_s
              have j63 := IsList.new (e := .inr (9, [.int (nI (pA v j)), .int (nI (pB v j)), .int (nI (pM v j)), .int (nI (pV v j)), .int (nI (pR v j)), .int (nI (pD v j)), .int (nI (pL v j))])) (hP_s) (hq57)
              rw [← hσ58] at j63
              have f64 : σ58 (Lk 1) = some (.inr (2, [.int mcT_c, .ref (Lk 3), .int (nI ((cw v (v 0) j) 0))])) := by rw [hσ58, sset_ne (sto_ne0 hq57 eT_c)]; exact eT_c
              have j65 := IsList.new (e := .inr (9, [.int (nI (pA v j)), .int (nI (pB v j)), .int (nI (pM v j)), .int (nI (pV v j)), .int (nI (pR v j)), .int (nI (pD v j)), .int (nI (pL v j))])) (hT_c) (hq57)
              rw [← hσ58] at j65
              have f66 : σ58 (Lk 2) = some (.inr (2, [.int mcP_c, .ref (Lk 4), .int (nI ((cw v (v 0) j) 1))])) := by rw [hσ58, sset_ne (sto_ne0 hq57 eP_c)]; exact eP_c
              have j67 := IsList.new (e := .inr (9, [.int (nI (pA v j)), .int (nI (pB v j)), .int (nI (pM v j)), .int (nI (pV v j)), .int (nI (pR v j)), .int (nI (pD v j)), .int (nI (pL v j))])) (hP_c) (hq57)
              rw [← hσ58] at j67
              have f68 : σ58 q1_ = some (.inr (1, [.ref (Lk 1), .ref (Lk 2), .int (nI ((cw v (v 0) j) 2)), .int (nI ((cw v (v 0) j) 3)), .int (nI ((cw v (v 0) j) 4)), .int (nI ((cw v (v 0) j) 5))])) := by rw [hσ58, sset_ne (sto_ne0 hq57 hq0)]; exact hq0
              have f69 : σ58 (L (100 + j)) = some (.inr (9, [.int (nI (pA v j)), .int (nI (pB v j)), .int (nI (pM v j)), .int (nI (pV v j)), .int (nI (pR v j)), .int (nI (pD v j)), .int (nI (pL v j))])) := by rw [hσ58, sset_ne (sto_ne0 hq57 ((hWs.2.2.2.2.2.1 j (by omega)).1))]; exact (hWs.2.2.2.2.2.1 j (by omega)).1
              refine s_callF (As := [.ref q57]) (rest := []) (C := RJ2) (T := TJ2) (N := 3) (n := 1) F hW (k_J2_add g l σ58 (Lk 2) (Lk 4) ((cw v (v 0) j) 1) (fun t => Lk (100 + t)) q57 9 _ _ (j67) (w58) (by decide) rfl q2846 (by rw [hσ58]; exact hWn.elmP.new hq57) (by omega)) (f66) rfl (List.mem_of_getElem? (i := 2) rfl) q964 q967 q969 q72 q971 (by decide +kernel) rfl ⟨⟨Nat.le_of_ble_eq_true rfl, Nat.le_of_ble_eq_true rfl⟩, ⟨(by show (19 + 2 * j + 0 + 0 + 1) + 1 ≤ 43; omega), (by show (756 + 97 * j + 0 + 0 + 7) + 90 ≤ 1920; omega)⟩⟩ (Nat.le_of_ble_eq_true rfl) hl.1 rfl dX2_copy_90 cX_no (fun r70 σ70 H locs hp70 hW => ?_)
              obtain ⟨rfl, hadd⟩ := hp70
              refine W.eq (g2 := F0 m_ 95 ls (.int (nI 1) :: [])) rfl ?_
              rw [hσ58] at hadd
              have hDid := addP hWn (by omega) (by omega) hq57 hb57 hadd (fun a ha => (hW.1.2.2.2 a ha).trans (hW00.1.2.2.2 a ha).symm) (F.cs.2.2.2.2.2.2.2.2 _ (by rw [F.cs.2.1]; simp))
              obtain ⟨L9, hW9, hL9, hF9, hX9⟩ := hDid.fresh hXk hFk
              rw [cw_P] at hW9
              simp only [cw_P] at hF9
              refine lv_pop F.x F.cd dX2_copy_95 rfl ?_
              refine lv_iinc (k := 2) (v := (nI (j + 1))) (lv' := [(2, .int (nI (j + 1))), (0, .ref (L 0)), (1, .ref q1_)]) F.x F.cd dX2_copy_96 hl rfl (inc_nI j 1) (by decide) rfl (fun ls hl => ?_)
              refine lv_goto (tgt := 57) F.x F.cd dX2_copy_99 (by decide) ?_
              refine W.widen (k := 19 + 2 * (j + 1)) (n := 756 + 97 * (j + 1)) (by show (19 + 2 * j + 0 + 0 + 1 + 1) ≤ _; omega) (by show (756 + 97 * j + 0 + 0 + 7 + 90) ≤ _; omega) ?_
              exact ih57 (j + 1) σ70 L9 (by omega) (hW9) (hL9.trans hLk) (hF9) (hX9) H locs ls hW (lv_sub hl [1, 2, 0] rfl)
        exact loop57 (v 1) 0 _ _ (by omega) (by rw [← show k = v 0 by omega]; exact hWn) (hLk) (by rw [← show k = v 0 by omega]; exact hFk) (hXk) H locs ls hW (lv_sub hl [1, 2, 0] rfl)
      · exact absurd c_20 (by omega)
    | succ n ih10 =>
      intro k σk Lk hkn hWn hLk hFk hXk H locs ls hW hl
      have hq0 : σk q1_ = some (wrkE Lk (cw v k 0)) := by rw [← hLk]; exact hWn.1
      have  hWs := hWk.ext hXk
      have hW00 := hW
      have hT_s := hWs.2.2.1
      have hP_s := hWs.2.2.2.1
      obtain ⟨mcT_s, nT_s, fT_s, eT_s, bT_s, -⟩ := id hT_s
      obtain ⟨mcP_s, nP_s, fP_s, eP_s, bP_s, -⟩ := id hP_s
      have hv0_s := hI.1
      have hv1_s := hI.2.1
      have z0 : cw v k 0 0 = k := cw_0.1
      have z1 : cw v k 0 1 = 0 := cw_0.2
      have hT_c := hWn.2.2.1
      have hP_c := hWn.2.2.2.1
      obtain ⟨mcT_c, nT_c, fT_c, eT_c, bT_c, -⟩ := id hT_c
      obtain ⟨mcP_c, nP_c, fP_c, eP_c, bP_c, -⟩ := id hP_c
      refine lv_iload_n F.x F.cd dX2_copy_10 rfl (lv_at hl 2 rfl) ?_
      refine lv_aload_n F.x F.cd dX2_copy_11 rfl (lv_at hl 0 rfl) ?_
      refine s_get F hW (ci := 1) (C := RX2) (T := TX2) (N := 6) (v := .ref (L 1)) (hWs.1) rfl in_X2 0 (by decide) q159 (fun _ h9 => h9) rfl dX2_copy_12 ?_
      refine s_callF (As := []) (rest := [.int (nI k)]) (C := RJ2) (T := TJ2) (N := 3) (n := 0) F hW (k_J2_size g l σk _ _ _ _ hT_s) (eT_s) rfl (List.mem_of_getElem? (i := 0) rfl) q317 q272 q274 q72 q276 (by decide +kernel) rfl ⟨⟨Nat.le_of_ble_eq_true rfl, Nat.le_of_ble_eq_true rfl⟩, ⟨(by show (3 + 2 * k) + 0 ≤ 43; omega), (by show (12 + 93 * k) + 0 ≤ 1920; omega)⟩⟩ (Nat.le_of_ble_eq_true rfl) hl.1 rfl dX2_copy_15 cX_no (fun r71 σ71 H locs hp71 hW => ?_)
      obtain ⟨rfl, hs71⟩ := hp71
      rw [hs71] at hW
      refine W.eq (g2 := F0 m_ 20 ls (.int (nI (v 0)) :: .int (nI k) :: [])) rfl ?_
      refine n_icmp_ge (a := k) (b := v 0) (tgt := 55) F (by omega) (by omega) dX2_copy_20 (by decide) (fun c_20 => ?_) (fun c_20 => ?_)
      · exact absurd c_20 (by omega)
      · refine lv_aload_n F.x F.cd dX2_copy_23 rfl (lv_at hl 1 rfl) ?_
        refine s_get F hW (ci := 1) (C := RX2) (T := TX2) (N := 6) (v := .ref (Lk 1)) (hq0) rfl in_X2 0 (by decide) q159 (fun _ h9 => h9) rfl dX2_copy_24 ?_
        refine lv_aload_n F.x F.cd dX2_copy_27 rfl (lv_at hl 0 rfl) ?_
        refine s_get F hW (ci := 1) (C := RX2) (T := TX2) (N := 6) (v := .ref (L 1)) (hWs.1) rfl in_X2 0 (by decide) q159 (fun _ h9 => h9) rfl dX2_copy_28 ?_
        refine lv_iload_n F.x F.cd dX2_copy_31 rfl (lv_at hl 2 rfl) ?_
        refine s_callF (As := [.int (nI k)]) (rest := [.ref (Lk 1)]) (C := RJ2) (T := TJ2) (N := 3) (n := 1) F hW (k_J2_get g l σk _ _ _ _ k hT_s (by omega)) (eT_s) rfl (List.mem_of_getElem? (i := 1) rfl) q693 q328 q330 q72 q332 (by decide +kernel) rfl ⟨⟨Nat.le_of_ble_eq_true rfl, Nat.le_of_ble_eq_true rfl⟩, ⟨(by show (3 + 2 * k + 0) + 0 ≤ 43; omega), (by show (12 + 93 * k + 0) + 0 ≤ 1920; omega)⟩⟩ (Nat.le_of_ble_eq_true rfl) hl.1 rfl dX2_copy_32 cX_no (fun r72 σ72 H locs hp72 hW => ?_)
        obtain ⟨rfl, hs72⟩ := hp72
        rw [hs72] at hW
        refine W.eq (g2 := F0 m_ 37 ls (.ref (L (10 + k)) :: .ref (Lk 1) :: [])) rfl ?_
        refine s_cast_ F hW (C := RX4) (T := TX4) (N := 3) ((hWs.2.2.2.2.1 k (by omega)).1) rfl q790 dX2_copy_37 ?_
        refine s_callV (As := []) (rest := [.ref (Lk 1)]) (C := RX4) (T := TX4) (N := 3) (n := 0) F hW (k_X4_copy g l σk (L (10 + k)) (tC v k) (tK v k) (tI v k) ((hWs.2.2.2.2.1 k (by omega)).1)) ((hWs.2.2.2.2.1 k (by omega)).1) rfl q938 q939 q940 q94 q941 rfl (by decide +kernel) rfl ⟨⟨Nat.le_of_ble_eq_true rfl, Nat.le_of_ble_eq_true rfl⟩, ⟨(by show (3 + 2 * k + 0 + 0) + 1 ≤ 43; omega), (by show (12 + 93 * k + 0 + 0) + 3 ≤ 1920; omega)⟩⟩ (Nat.le_of_ble_eq_true rfl) hl.1 rfl dX2_copy_40 cX_no (fun r73 σ73 H locs hp73 hW => ?_)
        obtain ⟨q73, rfl, hq73, hb73, rfl⟩ := hp73
        refine W.eq (g2 := F0 m_ 43 ls (.ref q73 :: .ref (Lk 1) :: [])) rfl ?_
        obtain ⟨σ74, hσ74⟩ : ∃ z, z = sset σk q73 (.inr (8, [.int (nI (tC v k)), .int (nI (tK v k)), .int (nI (tI v k))])) := ⟨_, rfl⟩
        have hW : Hl g σ74 H locs := by rw [hσ74]; exact hW
        have w74 : σ74 q73 = some (.inr (8, [.int (nI (tC v k)), .int (nI (tK v k)), .int (nI (tI v k))])) := by rw [hσ74]; exact sset_eq
        have f75 : σ74 (L 0) = some (.inr (1, [.ref (L 1), .ref (L 2), .int (nI (v 2)), .int (nI (v 3)), .int (nI (v 4)), .int (nI (v 5))])) := by rw [hσ74, sset_ne (sto_ne0 hq73 hWs.1)]; exact hWs.1
        have f76 : σ74 (L 1) = some (.inr (2, [.int mcT_s, .ref (L 3), .int (nI (v 0))])) := by rw [hσ74, sset_ne (sto_ne0 hq73 eT_s)]; exact eT_s
        have j77 := IsList.new (e := .inr (8, [.int (nI (tC v k)), .int (nI (tK v k)), .int (nI (tI v k))])) (hT_s) (hq73)
        rw [← hσ74] at j77
        have f78 : σ74 (L 2) = some (.inr (2, [.int mcP_s, .ref (L 4), .int (nI (v 1))])) := by rw [hσ74, sset_ne (sto_ne0 hq73 eP_s)]; exact eP_s
        have j79 := IsList.new (e := .inr (8, [.int (nI (tC v k)), .int (nI (tK v k)), .int (nI (tI v k))])) (hP_s) (hq73)
        rw [← hσ74] at j79
        have f80 : σ74 (Lk 1) = some (.inr (2, [.int mcT_c, .ref (Lk 3), .int (nI ((cw v k 0) 0))])) := by rw [hσ74, sset_ne (sto_ne0 hq73 eT_c)]; exact eT_c
        have j81 := IsList.new (e := .inr (8, [.int (nI (tC v k)), .int (nI (tK v k)), .int (nI (tI v k))])) (hT_c) (hq73)
        rw [← hσ74] at j81
        have f82 : σ74 (Lk 2) = some (.inr (2, [.int mcP_c, .ref (Lk 4), .int (nI ((cw v k 0) 1))])) := by rw [hσ74, sset_ne (sto_ne0 hq73 eP_c)]; exact eP_c
        have j83 := IsList.new (e := .inr (8, [.int (nI (tC v k)), .int (nI (tK v k)), .int (nI (tI v k))])) (hP_c) (hq73)
        rw [← hσ74] at j83
        have f84 : σ74 q1_ = some (.inr (1, [.ref (Lk 1), .ref (Lk 2), .int (nI ((cw v k 0) 2)), .int (nI ((cw v k 0) 3)), .int (nI ((cw v k 0) 4)), .int (nI ((cw v k 0) 5))])) := by rw [hσ74, sset_ne (sto_ne0 hq73 hq0)]; exact hq0
        have f85 : σ74 (L (10 + k)) = some (.inr (8, [.int (nI (tC v k)), .int (nI (tK v k)), .int (nI (tI v k))])) := by rw [hσ74, sset_ne (sto_ne0 hq73 ((hWs.2.2.2.2.1 k (by omega)).1))]; exact (hWs.2.2.2.2.1 k (by omega)).1
        refine s_callF (As := [.ref q73]) (rest := []) (C := RJ2) (T := TJ2) (N := 3) (n := 1) F hW (k_J2_add g l σ74 (Lk 1) (Lk 3) ((cw v k 0) 0) (fun t => Lk (10 + t)) q73 8 _ _ (j81) (w74) (by decide) rfl q2844 (by rw [hσ74]; exact hWn.elmT.new hq73) (by omega)) (f80) rfl (List.mem_of_getElem? (i := 2) rfl) q964 q967 q969 q72 q971 (by decide +kernel) rfl ⟨⟨Nat.le_of_ble_eq_true rfl, Nat.le_of_ble_eq_true rfl⟩, ⟨(by show (3 + 2 * k + 0 + 0 + 1) + 1 ≤ 43; omega), (by show (12 + 93 * k + 0 + 0 + 3) + 90 ≤ 1920; omega)⟩⟩ (Nat.le_of_ble_eq_true rfl) hl.1 rfl dX2_copy_43 cX_no (fun r86 σ86 H locs hp86 hW => ?_)
        obtain ⟨rfl, hadd⟩ := hp86
        refine W.eq (g2 := F0 m_ 48 ls (.int (nI 1) :: [])) rfl ?_
        rw [hσ74] at hadd
        have hDid := addT hWn (by omega) hq73 hb73 hadd (fun a ha => (hW.1.2.2.2 a ha).trans (hW00.1.2.2.2 a ha).symm) (F.cs.2.2.2.2.2.2.2.2 _ (by rw [F.cs.2.1]; simp))
        obtain ⟨L9, hW9, hL9, hF9, hX9⟩ := hDid.fresh hXk hFk
        rw [cw_T] at hW9
        simp only [cw_T] at hF9
        refine lv_pop F.x F.cd dX2_copy_48 rfl ?_
        refine lv_iinc (k := 2) (v := (nI (k + 1))) (lv' := [(2, .int (nI (k + 1))), (0, .ref (L 0)), (1, .ref q1_)]) F.x F.cd dX2_copy_49 hl rfl (inc_nI k 1) (by decide) rfl (fun ls hl => ?_)
        refine lv_goto (tgt := 10) F.x F.cd dX2_copy_52 (by decide) ?_
        refine W.widen (k := 3 + 2 * (k + 1)) (n := 12 + 93 * (k + 1)) (by show (3 + 2 * k + 0 + 0 + 1 + 1) ≤ _; omega) (by show (12 + 93 * k + 0 + 0 + 3 + 90) ≤ _; omega) ?_
        exact ih10 (k + 1) σ86 L9 (by omega) (hW9) (hL9.trans hLk) (hF9) (hX9) H locs ls hW (lv_sub hl [1, 2, 0] rfl)
  exact loop10 (v 0) 0 _ _ (by omega) (hWc v) (hLc) (hFt) (hXt) H locs ls hW (lv_sub hl [2, 1, 0] rfl)
