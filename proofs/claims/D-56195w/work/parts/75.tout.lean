/-! ===== the twin: its output ===== -/
set_option maxRecDepth 100000
/-- f with the letters L from w on -/
def apd (f : Nat → Nat) (w : Nat) (L : List Nat) : Nat → Nat := fun j => if w ≤ j ∧ j < w + L.length then L.getD (j - w) 0 else f j
theorem apd_nil {f : Nat → Nat} {w : Nat} : apd f w [] = f := funext fun j => if_neg (by simp only [List.length_nil]; omega)
theorem apd_one {f : Nat → Nat} {w c : Nat} : apd f w [c] = va_up f w c := by
  funext j
  unfold apd va_up
  by_cases h : j = w
  · rw [if_pos h, if_pos (by simp; omega), h, Nat.sub_self]; rfl
  · rw [if_neg h, if_neg (by simp; omega)]
theorem apd_app {f : Nat → Nat} {w : Nat} {L M : List Nat} : apd (apd f w L) (w + L.length) M = apd f w (L ++ M) := by
  funext j
  unfold apd
  rw [List.length_append]
  by_cases h : w + L.length ≤ j ∧ j < w + L.length + M.length
  · rw [if_pos h, if_pos (by omega), List.getD_eq_getElem?_getD, List.getD_eq_getElem?_getD, List.getElem?_append_right (by omega), show j - w - L.length = j - (w + L.length) by omega]
  · rw [if_neg h]
    by_cases h2 : w ≤ j ∧ j < w + L.length
    · rw [if_pos h2, if_pos (by omega), List.getD_eq_getElem?_getD, List.getD_eq_getElem?_getD, List.getElem?_append_left (by omega)]
    · rw [if_neg h2, if_neg (by omega)]
/-- the digits of a number below 1000 -/
def dgs (n : Nat) : List Nat := if n < 10 then [48 + n] else if n < 100 then [48 + n / 10, 48 + n % 10] else [48 + n / 100, 48 + n / 10 % 10, 48 + n % 10]
theorem dgs_le (n : Nat) : (dgs n).length ≤ 3 := by
  unfold dgs
  split
  · exact Nat.le_of_ble_eq_true rfl
  · split <;> exact Nat.le_of_ble_eq_true rfl
theorem apd_app0 {f : Nat → Nat} {L M : List Nat} : apd (apd f 0 L) L.length M = apd f 0 (L ++ M) := by
  rw [← apd_app, Nat.zero_add]
theorem rem10 : ∀ v, v < 1000 → nI v - nI v / nI 10 * nI 10 = nI (v % 10) := by decide +kernel
theorem dgs_1 {v : Nat} (h : v < 10) : dgs v = [48 + v] := if_pos h
theorem dgs_rec {v : Nat} (h : 10 ≤ v) (h2 : v < 1000) : dgs v = dgs (v / 10) ++ [48 + v % 10] := by
  unfold dgs
  rw [if_neg (by omega)]
  by_cases h3 : v < 100
  · rw [if_pos h3, if_pos (by omega)]
    rfl
  · rw [if_neg h3, if_neg (by omega), if_pos (by omega)]
    rw [show v / 10 / 10 = v / 100 by omega]
    rfl
def lts (s : Nat) : Nat → List Nat
  | 0 => []
  | k + 1 => lts s k ++ if s.testBit k = true then [97 + k] else []
theorem lts_t {s k : Nat} (h : s.testBit k = true) : lts s (k + 1) = lts s k ++ [97 + k] := by
  rw [lts, if_pos h]
theorem lts_f {s k : Nat} (h : s.testBit k = false) : lts s (k + 1) = lts s k := by
  rw [lts, if_neg (by rw [h]; decide), List.append_nil]
theorem lts_le (s : Nat) : ∀ k, (lts s k).length ≤ k
  | 0 => Nat.le_refl _
  | k + 1 => by
    have := lts_le s k
    rw [lts, List.length_append]
    split <;> simp <;> omega
/-- a tank's text, a pipe's -/
def rtL (v : Nat → Nat) (i : Nat) : List Nat := dgs i ++ (61 :: dgs (tK v i)) ++ (47 :: dgs (tC v i)) ++ (if 0 < tI v i then [58] else []) ++ lts (tI v i) 8
def rpL (v : Nat → Nat) (q : Nat) : List Nat := dgs q ++ (58 :: dgs (pA v q)) ++ (45 :: dgs (pB v q)) ++ (118 :: dgs (pV v q)) ++ (100 :: dgs (pD v q)) ++ (if 0 < pR v q then 108 :: dgs (pR v q) else []) ++ (if brB v q = true then [42] else [])
theorem rpL_t {v : Nat → Nat} {q : Nat} (h : brB v q = true) : rpL v q = dgs q ++ (58 :: dgs (pA v q)) ++ (45 :: dgs (pB v q)) ++ (118 :: dgs (pV v q)) ++ (100 :: dgs (pD v q)) ++ (if 0 < pR v q then 108 :: dgs (pR v q) else []) ++ [42] := by
  unfold rpL
  rw [h, if_pos (rfl : true = true)]
theorem rpL_f {v : Nat → Nat} {q : Nat} (h : brB v q = false) : rpL v q = dgs q ++ (58 :: dgs (pA v q)) ++ (45 :: dgs (pB v q)) ++ (118 :: dgs (pV v q)) ++ (100 :: dgs (pD v q)) ++ (if 0 < pR v q then 108 :: dgs (pR v q) else []) := by
  unfold rpL
  rw [h, if_neg (show ¬ (false = true) by decide), List.append_nil]
theorem dgs_lt {n : Nat} (h : n < 1000) : ∀ c ∈ dgs n, c < 128 := by
  unfold dgs
  split
  · intro c hc; simp at hc; omega
  · split
    · intro c hc; simp at hc; omega
    · intro c hc; simp at hc; omega
set_option maxHeartbeats 4000000 in
theorem k_X3_signs (g : Gh) (l : Launch) (σ : Sto) (m : Nat) (A : Nat → Nat) (iv : Nat → Int32) (wd : Nat) (ar : Nat → Nat → Nat) (rb : Nat → Bool) (w : Nat) (c : Nat) (hw : IsTw g σ m A iv wd ar rb) (h8 : iv 8 = nI w) (hw60 : w < 60) (hc : c < 65536) : Ct g l yX3_signs cX3_signs 2 none ({ frames := 0, cells := 0, slots := 0, locals := 0 } : Room) [.ref m, .int (nI c)] σ (fun r σ' => r = none ∧ IsTw g σ' m A (va_up iv 8 (nI (w + 1))) wd (va_up ar 5 (apd (ar 5) w [c])) rb ∧ Fm σ σ' m A) (nox) := by
  refine Ct.body (by decide) (Nat.le_of_ble_eq_true rfl) ?_
  intro p_ e_ s_ m_ args_ below_ meth_ c_ ls H locs Q F hW hl hQ
  have hl : lv_has ls 2 [(0, .ref m), (1, .int (nI c))] := hl
  obtain ⟨t0, tb0, ta0, ta1, ta2, ta3, ta4, ta5, ta6, ta7, tbb, tii⟩ := id hw
  have tw_1 : IsTw g σ m A (va_up iv 8 (nI w)) wd ar rb := by
    rw [← h8]
    exact ⟨t0, tb0, ta0, ta1, ta2, ta3, ta4, ta5, ta6, ta7, tbb, tii⟩
  obtain ⟨t0_1, -, ta0_1, ta1_1, ta2_1, ta3_1, ta4_1, ta5_1, ta6_1, ta7_1, -, -⟩ := id tw_1
  refine lv_aload_n F.x F.cd dX3_signs_0 rfl (lv_at hl 0 rfl) ?_
  refine s_get F hW (ci := 7) (C := RX3) (T := TX3) (N := 18) (v := .ref (A 5)) (t0_1) rfl in_X3 7 (by decide) q2286 (fun _ h9 => h9) rfl dX3_signs_1 ?_
  refine lv_aload_n F.x F.cd dX3_signs_4 rfl (lv_at hl 0 rfl) ?_
  refine lv_dup F.x F.cd dX3_signs_5 rfl ?_
  refine s_get F hW (ci := 7) (C := RX3) (T := TX3) (N := 18) (v := .int (nI w)) (t0_1) rfl in_X3 8 (by decide) q2287 (fun _ h9 => h9) rfl dX3_signs_6 ?_
  refine lv_dup_x1 F.x F.cd dX3_signs_9 rfl rfl ?_
  refine lv_iconst (v := (nI 1)) F.x F.cd dX3_signs_10 (by decide) ?_
  refine a_iadd (v := (nI (w + 1))) F (nI_add _ _) dX3_signs_11 ?_
  refine s_put F hW (ci := 7) (C := RX3) (T := TX3) (N := 18) (v := .int (nI (w + 1))) (ty := .int) (t0_1) (tb0) rfl in_X3 tyX3_ok nmX3 8 (by decide) q2287 (fun _ h9 => h9) rfl (by decide +kernel) rfl rfl (Nat.le_of_ble_eq_true rfl) dX3_signs_12 (fun H locs hW => ?_)
  obtain ⟨σ3, hσ3⟩ : ∃ z, z = sset σ m (.inr (7, [.ref (A 0), .ref (A 1), .ref (A 2), .int (iv 3), .ref (A 3), .int (iv 5), .ref (A 4), .ref (A 5), .int (nI (w + 1)), .ref (A 6), .int (iv 10), .int (iv 11), .ref wd, .ref (A 7), .int (iv 14), .int (iv 15), .int (iv 16), .int (iv 17)])) := ⟨_, rfl⟩
  have hW : Hl g σ3 H locs := by rw [hσ3]; exact hW
  have w3 : σ3 m = some (.inr (7, [.ref (A 0), .ref (A 1), .ref (A 2), .int (iv 3), .ref (A 3), .int (iv 5), .ref (A 4), .ref (A 5), .int (nI (w + 1)), .ref (A 6), .int (iv 10), .int (iv 11), .ref wd, .ref (A 7), .int (iv 14), .int (iv 15), .int (iv 16), .int (iv 17)])) := by rw [hσ3]; exact sset_eq
  have f4 : σ3 (A 0) = some (eI g 0 114 (fun x9 => nI ((ar 0) x9))) := by rw [hσ3, sset_ne (sto_ne t0_1 ta0_1 (by simp))]; exact ta0_1
  have f5 : σ3 (A 1) = some (eI g 0 114 (fun x9 => nI ((ar 1) x9))) := by rw [hσ3, sset_ne (sto_ne t0_1 ta1_1 (by simp))]; exact ta1_1
  have f6 : σ3 (A 2) = some (eI g 0 912 (fun x9 => nI ((ar 2) x9))) := by rw [hσ3, sset_ne (sto_ne t0_1 ta2_1 (by simp))]; exact ta2_1
  have f7 : σ3 (A 3) = some (eI g 0 114 (fun x9 => nI ((ar 3) x9))) := by rw [hσ3, sset_ne (sto_ne t0_1 ta3_1 (by simp))]; exact ta3_1
  have f8 : σ3 (A 4) = some (eI g 2 2048 (fun x9 => bI (rb x9))) := by rw [hσ3, sset_ne (sto_ne t0_1 ta4_1 (by simp))]; exact ta4_1
  have f9 : σ3 (A 5) = some (eI g 3 60 (fun x9 => nI ((ar 5) x9))) := by rw [hσ3, sset_ne (sto_ne t0_1 ta5_1 (by simp))]; exact ta5_1
  have f10 : σ3 (A 6) = some (eI g 3 60 (fun x9 => nI ((ar 6) x9))) := by rw [hσ3, sset_ne (sto_ne t0_1 ta6_1 (by simp))]; exact ta6_1
  have f11 : σ3 (A 7) = some (eI g 0 3 (fun x9 => nI ((ar 7) x9))) := by rw [hσ3, sset_ne (sto_ne t0_1 ta7_1 (by simp))]; exact ta7_1
  refine lv_iload_n F.x F.cd dX3_signs_15 rfl (lv_at hl 1 rfl) ?_
  refine n_castN (i := w) F hW (f9) (tbb 5 (by decide)) (by omega) (by omega) (nar_c (by omega)) dX3_signs_16 (fun H locs hW => ?_)
  obtain ⟨σ12, hσ12⟩ : ∃ z, z = sset σ3 (A 5) (eI g 3 60 (fun x9 => nI ((va_up (ar 5) w c) x9))) := ⟨_, rfl⟩
  have hW : Hl g σ12 H locs := by rw [hσ12]; exact hW
  have w12 : σ12 (A 5) = some (eI g 3 60 (fun x9 => nI ((va_up (ar 5) w c) x9))) := by rw [hσ12]; exact sset_eq
  have f13 : σ12 m = some (.inr (7, [.ref (A 0), .ref (A 1), .ref (A 2), .int (iv 3), .ref (A 3), .int (iv 5), .ref (A 4), .ref (A 5), .int (nI (w + 1)), .ref (A 6), .int (iv 10), .int (iv 11), .ref wd, .ref (A 7), .int (iv 14), .int (iv 15), .int (iv 16), .int (iv 17)])) := by rw [hσ12, sset_ne (sto_ne f9 w3 (by simp))]; exact w3
  have f14 : σ12 (A 0) = some (eI g 0 114 (fun x9 => nI ((ar 0) x9))) := by rw [hσ12, sset_ne (fun q9 => absurd (tii 0 5 (by decide) (by decide) q9) (by decide))]; exact f4
  have f15 : σ12 (A 1) = some (eI g 0 114 (fun x9 => nI ((ar 1) x9))) := by rw [hσ12, sset_ne (fun q9 => absurd (tii 1 5 (by decide) (by decide) q9) (by decide))]; exact f5
  have f16 : σ12 (A 2) = some (eI g 0 912 (fun x9 => nI ((ar 2) x9))) := by rw [hσ12, sset_ne (fun q9 => absurd (tii 2 5 (by decide) (by decide) q9) (by decide))]; exact f6
  have f17 : σ12 (A 3) = some (eI g 0 114 (fun x9 => nI ((ar 3) x9))) := by rw [hσ12, sset_ne (fun q9 => absurd (tii 3 5 (by decide) (by decide) q9) (by decide))]; exact f7
  have f18 : σ12 (A 4) = some (eI g 2 2048 (fun x9 => bI (rb x9))) := by rw [hσ12, sset_ne (fun q9 => absurd (tii 4 5 (by decide) (by decide) q9) (by decide))]; exact f8
  have f19 : σ12 (A 6) = some (eI g 3 60 (fun x9 => nI ((ar 6) x9))) := by rw [hσ12, sset_ne (fun q9 => absurd (tii 6 5 (by decide) (by decide) q9) (by decide))]; exact f10
  have f20 : σ12 (A 7) = some (eI g 0 3 (fun x9 => nI ((ar 7) x9))) := by rw [hσ12, sset_ne (fun q9 => absurd (tii 7 5 (by decide) (by decide) q9) (by decide))]; exact f11
  have tw21 : IsTw g σ12 m A (va_up iv 8 (nI (w + 1))) wd (va_up ar 5 (va_up (ar 5) w c)) rb := ⟨f13, tb0, f14, f15, f16, f17, f18, w12, f19, f20, tbb, tii⟩
  have fm21 : Fm σ σ12 m A := by rw [hσ12, hσ3]; exact ((Fm.refl).setM).setA 5 (by decide)
  have tw_22 : IsTw g σ12 m A (va_up iv 8 (nI (w + 1))) wd (va_up ar 5 (apd (ar 5) w [c])) rb := by
    rw [apd_one]
    exact ⟨f13, tb0, f14, f15, f16, f17, f18, w12, f19, f20, tbb, tii⟩
  obtain ⟨t0_22, -, ta0_22, ta1_22, ta2_22, ta3_22, ta4_22, ta5_22, ta6_22, ta7_22, -, -⟩ := id tw_22
  subst hQ
  exact s_retv F hW (⟨rfl, tw_22, fm21⟩) ⟨(Nat.le_of_ble_eq_true rfl), (Nat.le_of_ble_eq_true rfl)⟩ dX3_signs_17
set_option maxHeartbeats 4000000 in
theorem k_X3_wr_1 (g : Gh) (l : Launch) (σ : Sto) (m : Nat) (A : Nat → Nat) (iv : Nat → Int32) (wd : Nat) (ar : Nat → Nat → Nat) (rb : Nat → Bool) (w v : Nat) (hw : IsTw g σ m A iv wd ar rb) (h8 : iv 8 = nI w) (hw60 : w + 3 < 60) (hv : v < 10) : Ct g l yX3_writes cX3_writes 2 none ({ frames := 1, cells := 0, slots := 0, locals := 21 } : Room) [.ref m, .int (nI v)] σ (fun r σ' => r = none ∧ IsTw g σ' m A (va_up iv 8 (nI (w + (dgs v).length))) wd (va_up ar 5 (apd (ar 5) w (dgs v))) rb ∧ Fm σ σ' m A) (nox) := by
  refine Ct.body (by decide) (Nat.le_of_ble_eq_true rfl) ?_
  intro p_ e_ s_ m_ args_ below_ meth_ c_ ls H locs Q F hW hl hQ
  have hl : lv_has ls 2 [(0, .ref m), (1, .int (nI v))] := hl
  obtain ⟨t0, tb0, ta0, ta1, ta2, ta3, ta4, ta5, ta6, ta7, tbb, tii⟩ := id hw
  have tw_1 : IsTw g σ m A (va_up iv 8 (nI w)) wd ar rb := by
    rw [← h8]
    exact ⟨t0, tb0, ta0, ta1, ta2, ta3, ta4, ta5, ta6, ta7, tbb, tii⟩
  obtain ⟨t0_1, -, ta0_1, ta1_1, ta2_1, ta3_1, ta4_1, ta5_1, ta6_1, ta7_1, -, -⟩ := id tw_1
  refine lv_iload_n F.x F.cd dX3_writes_0 rfl (lv_at hl 1 rfl) ?_
  refine lv_bipush (v := (nI 9)) F.x F.cd dX3_writes_1 (by decide) ?_
  refine n_icmp_le (a := v) (b := 9) (tgt := 14) F (by omega) (by omega) dX3_writes_3 (by decide) (fun c_3 => ?_) (fun c_3 => ?_)
  · refine lv_aload_n F.x F.cd dX3_writes_14 rfl (lv_at hl 0 rfl) ?_
    refine lv_bipush (v := (nI 48)) F.x F.cd dX3_writes_15 (by decide) ?_
    refine lv_iload_n F.x F.cd dX3_writes_17 rfl (lv_at hl 1 rfl) ?_
    refine lv_bipush (v := (nI 10)) F.x F.cd dX3_writes_18 (by decide) ?_
    refine a_irem (v := (nI (v % 10))) F (rem10 _ (by omega)) (by decide) dX3_writes_20 ?_
    refine a_iadd (v := (nI (48 + (v % 10)))) F (nI_add _ _) dX3_writes_21 ?_
    refine lv_i2c (v := (nI (48 + (v % 10)))) F.x F.cd dX3_writes_22 (i2c_nI _ (by omega)) ?_
    refine s_callV (As := [.int (nI (48 + (v % 10)))]) (rest := []) (C := RX3) (T := TX3) (N := 18) (n := 1) F hW (k_X3_signs g l σ m A _ _ _ _ w (48 + (v % 10)) tw_1 rfl (by omega) (by omega)) (t0_1) rfl q2666 q2668 qs59 q79 q2669 rfl (by decide +kernel) rfl ⟨⟨Nat.le_of_ble_eq_true rfl, Nat.le_of_ble_eq_true rfl⟩, ⟨(Nat.le_of_ble_eq_true rfl), (Nat.le_of_ble_eq_true rfl)⟩⟩ (Nat.le_of_ble_eq_true rfl) hl.1 rfl dX3_writes_23 cX_no (fun r2 σ2 H locs hp2 hW => ?_)
    obtain ⟨rfl, tv2, fv2⟩ := hp2
    refine W.eq (g2 := F0 m_ 26 ls ([])) rfl ?_
    obtain ⟨t0_3, -, ta0_3, ta1_3, ta2_3, ta3_3, ta4_3, ta5_3, ta6_3, ta7_3, -, -⟩ := id tv2
    have fm_3 : Fm σ σ2 m A := (Fm.refl).trans fv2
    have tw_3 : IsTw g σ2 m A (va_up iv 8 (nI (w + 1))) wd (va_up ar 5 (apd (ar 5) w [48 + (v % 10)])) rb := ⟨t0_3, tb0, ta0_3, ta1_3, ta2_3, ta3_3, ta4_3, ta5_3, ta6_3, ta7_3, tbb, tii⟩
    have tw_4 : IsTw g σ2 m A (va_up iv 8 (nI (w + (dgs v).length))) wd (va_up ar 5 (apd (ar 5) w (dgs v))) rb := by
      rw [dgs_1 (by omega), show 48 + v = 48 + v % 10 by omega]
      exact ⟨t0_3, tb0, ta0_3, ta1_3, ta2_3, ta3_3, ta4_3, ta5_3, ta6_3, ta7_3, tbb, tii⟩
    obtain ⟨t0_4, -, ta0_4, ta1_4, ta2_4, ta3_4, ta4_4, ta5_4, ta6_4, ta7_4, -, -⟩ := id tw_4
    subst hQ
    exact s_retv F hW (⟨rfl, tw_4, fm_3⟩) ⟨(Nat.le_of_ble_eq_true rfl), (Nat.le_of_ble_eq_true rfl)⟩ dX3_writes_26
  · exact absurd c_3 (by omega)
set_option maxHeartbeats 4000000 in
theorem k_X3_wr_2 (g : Gh) (l : Launch) (σ : Sto) (m : Nat) (A : Nat → Nat) (iv : Nat → Int32) (wd : Nat) (ar : Nat → Nat → Nat) (rb : Nat → Bool) (w v : Nat) (hw : IsTw g σ m A iv wd ar rb) (h8 : iv 8 = nI w) (hw60 : w + 3 < 60) (hv : v < 100) : Ct g l yX3_writes cX3_writes 2 none ({ frames := 2, cells := 0, slots := 0, locals := 42 } : Room) [.ref m, .int (nI v)] σ (fun r σ' => r = none ∧ IsTw g σ' m A (va_up iv 8 (nI (w + (dgs v).length))) wd (va_up ar 5 (apd (ar 5) w (dgs v))) rb ∧ Fm σ σ' m A) (nox) := by
  refine Ct.body (by decide) (Nat.le_of_ble_eq_true rfl) ?_
  intro p_ e_ s_ m_ args_ below_ meth_ c_ ls H locs Q F hW hl hQ
  have hl : lv_has ls 2 [(0, .ref m), (1, .int (nI v))] := hl
  obtain ⟨t0, tb0, ta0, ta1, ta2, ta3, ta4, ta5, ta6, ta7, tbb, tii⟩ := id hw
  have tw_1 : IsTw g σ m A (va_up iv 8 (nI w)) wd ar rb := by
    rw [← h8]
    exact ⟨t0, tb0, ta0, ta1, ta2, ta3, ta4, ta5, ta6, ta7, tbb, tii⟩
  obtain ⟨t0_1, -, ta0_1, ta1_1, ta2_1, ta3_1, ta4_1, ta5_1, ta6_1, ta7_1, -, -⟩ := id tw_1
  refine lv_iload_n F.x F.cd dX3_writes_0 rfl (lv_at hl 1 rfl) ?_
  refine lv_bipush (v := (nI 9)) F.x F.cd dX3_writes_1 (by decide) ?_
  refine n_icmp_le (a := v) (b := 9) (tgt := 14) F (by omega) (by omega) dX3_writes_3 (by decide) (fun c_3 => ?_) (fun c_3 => ?_)
  · refine lv_aload_n F.x F.cd dX3_writes_14 rfl (lv_at hl 0 rfl) ?_
    refine lv_bipush (v := (nI 48)) F.x F.cd dX3_writes_15 (by decide) ?_
    refine lv_iload_n F.x F.cd dX3_writes_17 rfl (lv_at hl 1 rfl) ?_
    refine lv_bipush (v := (nI 10)) F.x F.cd dX3_writes_18 (by decide) ?_
    refine a_irem (v := (nI (v % 10))) F (rem10 _ (by omega)) (by decide) dX3_writes_20 ?_
    refine a_iadd (v := (nI (48 + (v % 10)))) F (nI_add _ _) dX3_writes_21 ?_
    refine lv_i2c (v := (nI (48 + (v % 10)))) F.x F.cd dX3_writes_22 (i2c_nI _ (by omega)) ?_
    refine s_callV (As := [.int (nI (48 + (v % 10)))]) (rest := []) (C := RX3) (T := TX3) (N := 18) (n := 1) F hW (k_X3_signs g l σ m A _ _ _ _ w (48 + (v % 10)) tw_1 rfl (by omega) (by omega)) (t0_1) rfl q2666 q2668 qs59 q79 q2669 rfl (by decide +kernel) rfl ⟨⟨Nat.le_of_ble_eq_true rfl, Nat.le_of_ble_eq_true rfl⟩, ⟨(Nat.le_of_ble_eq_true rfl), (Nat.le_of_ble_eq_true rfl)⟩⟩ (Nat.le_of_ble_eq_true rfl) hl.1 rfl dX3_writes_23 cX_no (fun r2 σ2 H locs hp2 hW => ?_)
    obtain ⟨rfl, tv2, fv2⟩ := hp2
    refine W.eq (g2 := F0 m_ 26 ls ([])) rfl ?_
    obtain ⟨t0_3, -, ta0_3, ta1_3, ta2_3, ta3_3, ta4_3, ta5_3, ta6_3, ta7_3, -, -⟩ := id tv2
    have fm_3 : Fm σ σ2 m A := (Fm.refl).trans fv2
    have tw_3 : IsTw g σ2 m A (va_up iv 8 (nI (w + 1))) wd (va_up ar 5 (apd (ar 5) w [48 + (v % 10)])) rb := ⟨t0_3, tb0, ta0_3, ta1_3, ta2_3, ta3_3, ta4_3, ta5_3, ta6_3, ta7_3, tbb, tii⟩
    have tw_4 : IsTw g σ2 m A (va_up iv 8 (nI (w + (dgs v).length))) wd (va_up ar 5 (apd (ar 5) w (dgs v))) rb := by
      rw [dgs_1 (by omega), show 48 + v = 48 + v % 10 by omega]
      exact ⟨t0_3, tb0, ta0_3, ta1_3, ta2_3, ta3_3, ta4_3, ta5_3, ta6_3, ta7_3, tbb, tii⟩
    obtain ⟨t0_4, -, ta0_4, ta1_4, ta2_4, ta3_4, ta4_4, ta5_4, ta6_4, ta7_4, -, -⟩ := id tw_4
    subst hQ
    exact s_retv F hW (⟨rfl, tw_4, fm_3⟩) ⟨(Nat.le_of_ble_eq_true rfl), (Nat.le_of_ble_eq_true rfl)⟩ dX3_writes_26
  · have hdl := dgs_le (v / 10)
    refine lv_aload_n F.x F.cd dX3_writes_6 rfl (lv_at hl 0 rfl) ?_
    refine lv_iload_n F.x F.cd dX3_writes_7 rfl (lv_at hl 1 rfl) ?_
    refine lv_bipush (v := (nI 10)) F.x F.cd dX3_writes_8 (by decide) ?_
    refine a_idiv (v := (nI (v / 10))) F (pk_div (by omega) (by omega) (by omega)) (by decide) dX3_writes_10 ?_
    refine s_callV (As := [.int (nI (v / 10))]) (rest := []) (C := RX3) (T := TX3) (N := 18) (n := 1) F hW (k_X3_wr_1 g l σ m A _ _ _ _ w (v / 10) tw_1 rfl (by omega) (by omega)) (t0_1) rfl q2662 q2664 qs58 q79 q2665 rfl (by decide +kernel) rfl ⟨⟨Nat.le_of_ble_eq_true rfl, Nat.le_of_ble_eq_true rfl⟩, ⟨(Nat.le_of_ble_eq_true rfl), (Nat.le_of_ble_eq_true rfl)⟩⟩ (Nat.le_of_ble_eq_true rfl) hl.1 rfl dX3_writes_11 cX_no (fun r5 σ5 H locs hp5 hW => ?_)
    obtain ⟨rfl, tv5, fv5⟩ := hp5
    refine W.eq (g2 := F0 m_ 14 ls ([])) rfl ?_
    obtain ⟨t0_6, -, ta0_6, ta1_6, ta2_6, ta3_6, ta4_6, ta5_6, ta6_6, ta7_6, -, -⟩ := id tv5
    have fm_6 : Fm σ σ5 m A := (Fm.refl).trans fv5
    have tw_6 : IsTw g σ5 m A (va_up iv 8 (nI (w + (dgs (v / 10)).length))) wd (va_up ar 5 (apd (ar 5) w (dgs (v / 10)))) rb := ⟨t0_6, tb0, ta0_6, ta1_6, ta2_6, ta3_6, ta4_6, ta5_6, ta6_6, ta7_6, tbb, tii⟩
    refine lv_aload_n F.x F.cd dX3_writes_14 rfl (lv_at hl 0 rfl) ?_
    refine lv_bipush (v := (nI 48)) F.x F.cd dX3_writes_15 (by decide) ?_
    refine lv_iload_n F.x F.cd dX3_writes_17 rfl (lv_at hl 1 rfl) ?_
    refine lv_bipush (v := (nI 10)) F.x F.cd dX3_writes_18 (by decide) ?_
    refine a_irem (v := (nI (v % 10))) F (rem10 _ (by omega)) (by decide) dX3_writes_20 ?_
    refine a_iadd (v := (nI (48 + (v % 10)))) F (nI_add _ _) dX3_writes_21 ?_
    refine lv_i2c (v := (nI (48 + (v % 10)))) F.x F.cd dX3_writes_22 (i2c_nI _ (by omega)) ?_
    refine s_callV (As := [.int (nI (48 + (v % 10)))]) (rest := []) (C := RX3) (T := TX3) (N := 18) (n := 1) F hW (k_X3_signs g l σ5 m A _ _ _ _ (w + (dgs (v / 10)).length) (48 + (v % 10)) tw_6 rfl (by omega) (by omega)) (t0_6) rfl q2666 q2668 qs59 q79 q2669 rfl (by decide +kernel) rfl ⟨⟨Nat.le_of_ble_eq_true rfl, Nat.le_of_ble_eq_true rfl⟩, ⟨(Nat.le_of_ble_eq_true rfl), (Nat.le_of_ble_eq_true rfl)⟩⟩ (Nat.le_of_ble_eq_true rfl) hl.1 rfl dX3_writes_23 cX_no (fun r7 σ7 H locs hp7 hW => ?_)
    obtain ⟨rfl, tv7, fv7⟩ := hp7
    refine W.eq (g2 := F0 m_ 26 ls ([])) rfl ?_
    obtain ⟨t0_8, -, ta0_8, ta1_8, ta2_8, ta3_8, ta4_8, ta5_8, ta6_8, ta7_8, -, -⟩ := id tv7
    have fm_8 : Fm σ σ7 m A := (fm_6).trans fv7
    have tw_8 : IsTw g σ7 m A (va_up iv 8 (nI (w + (dgs (v / 10)).length + 1))) wd (va_up ar 5 (apd (apd (ar 5) w (dgs (v / 10))) (w + (dgs (v / 10)).length) [48 + (v % 10)])) rb := ⟨t0_8, tb0, ta0_8, ta1_8, ta2_8, ta3_8, ta4_8, ta5_8, ta6_8, ta7_8, tbb, tii⟩
    have tw_9 : IsTw g σ7 m A (va_up iv 8 (nI (w + (dgs v).length))) wd (va_up ar 5 (apd (ar 5) w (dgs v))) rb := by
      rw [dgs_rec (by omega) (by omega), ← apd_app, List.length_append, ← Nat.add_assoc]
      exact ⟨t0_8, tb0, ta0_8, ta1_8, ta2_8, ta3_8, ta4_8, ta5_8, ta6_8, ta7_8, tbb, tii⟩
    obtain ⟨t0_9, -, ta0_9, ta1_9, ta2_9, ta3_9, ta4_9, ta5_9, ta6_9, ta7_9, -, -⟩ := id tw_9
    subst hQ
    exact s_retv F hW (⟨rfl, tw_9, fm_8⟩) ⟨(Nat.le_of_ble_eq_true rfl), (Nat.le_of_ble_eq_true rfl)⟩ dX3_writes_26
set_option maxHeartbeats 4000000 in
theorem k_X3_wr_3 (g : Gh) (l : Launch) (σ : Sto) (m : Nat) (A : Nat → Nat) (iv : Nat → Int32) (wd : Nat) (ar : Nat → Nat → Nat) (rb : Nat → Bool) (w v : Nat) (hw : IsTw g σ m A iv wd ar rb) (h8 : iv 8 = nI w) (hw60 : w + 3 < 60) (hv : v < 1000) : Ct g l yX3_writes cX3_writes 2 none ({ frames := 3, cells := 0, slots := 0, locals := 63 } : Room) [.ref m, .int (nI v)] σ (fun r σ' => r = none ∧ IsTw g σ' m A (va_up iv 8 (nI (w + (dgs v).length))) wd (va_up ar 5 (apd (ar 5) w (dgs v))) rb ∧ Fm σ σ' m A) (nox) := by
  refine Ct.body (by decide) (Nat.le_of_ble_eq_true rfl) ?_
  intro p_ e_ s_ m_ args_ below_ meth_ c_ ls H locs Q F hW hl hQ
  have hl : lv_has ls 2 [(0, .ref m), (1, .int (nI v))] := hl
  obtain ⟨t0, tb0, ta0, ta1, ta2, ta3, ta4, ta5, ta6, ta7, tbb, tii⟩ := id hw
  have tw_1 : IsTw g σ m A (va_up iv 8 (nI w)) wd ar rb := by
    rw [← h8]
    exact ⟨t0, tb0, ta0, ta1, ta2, ta3, ta4, ta5, ta6, ta7, tbb, tii⟩
  obtain ⟨t0_1, -, ta0_1, ta1_1, ta2_1, ta3_1, ta4_1, ta5_1, ta6_1, ta7_1, -, -⟩ := id tw_1
  refine lv_iload_n F.x F.cd dX3_writes_0 rfl (lv_at hl 1 rfl) ?_
  refine lv_bipush (v := (nI 9)) F.x F.cd dX3_writes_1 (by decide) ?_
  refine n_icmp_le (a := v) (b := 9) (tgt := 14) F (by omega) (by omega) dX3_writes_3 (by decide) (fun c_3 => ?_) (fun c_3 => ?_)
  · refine lv_aload_n F.x F.cd dX3_writes_14 rfl (lv_at hl 0 rfl) ?_
    refine lv_bipush (v := (nI 48)) F.x F.cd dX3_writes_15 (by decide) ?_
    refine lv_iload_n F.x F.cd dX3_writes_17 rfl (lv_at hl 1 rfl) ?_
    refine lv_bipush (v := (nI 10)) F.x F.cd dX3_writes_18 (by decide) ?_
    refine a_irem (v := (nI (v % 10))) F (rem10 _ (by omega)) (by decide) dX3_writes_20 ?_
    refine a_iadd (v := (nI (48 + (v % 10)))) F (nI_add _ _) dX3_writes_21 ?_
    refine lv_i2c (v := (nI (48 + (v % 10)))) F.x F.cd dX3_writes_22 (i2c_nI _ (by omega)) ?_
    refine s_callV (As := [.int (nI (48 + (v % 10)))]) (rest := []) (C := RX3) (T := TX3) (N := 18) (n := 1) F hW (k_X3_signs g l σ m A _ _ _ _ w (48 + (v % 10)) tw_1 rfl (by omega) (by omega)) (t0_1) rfl q2666 q2668 qs59 q79 q2669 rfl (by decide +kernel) rfl ⟨⟨Nat.le_of_ble_eq_true rfl, Nat.le_of_ble_eq_true rfl⟩, ⟨(Nat.le_of_ble_eq_true rfl), (Nat.le_of_ble_eq_true rfl)⟩⟩ (Nat.le_of_ble_eq_true rfl) hl.1 rfl dX3_writes_23 cX_no (fun r2 σ2 H locs hp2 hW => ?_)
    obtain ⟨rfl, tv2, fv2⟩ := hp2
    refine W.eq (g2 := F0 m_ 26 ls ([])) rfl ?_
    obtain ⟨t0_3, -, ta0_3, ta1_3, ta2_3, ta3_3, ta4_3, ta5_3, ta6_3, ta7_3, -, -⟩ := id tv2
    have fm_3 : Fm σ σ2 m A := (Fm.refl).trans fv2
    have tw_3 : IsTw g σ2 m A (va_up iv 8 (nI (w + 1))) wd (va_up ar 5 (apd (ar 5) w [48 + (v % 10)])) rb := ⟨t0_3, tb0, ta0_3, ta1_3, ta2_3, ta3_3, ta4_3, ta5_3, ta6_3, ta7_3, tbb, tii⟩
    have tw_4 : IsTw g σ2 m A (va_up iv 8 (nI (w + (dgs v).length))) wd (va_up ar 5 (apd (ar 5) w (dgs v))) rb := by
      rw [dgs_1 (by omega), show 48 + v = 48 + v % 10 by omega]
      exact ⟨t0_3, tb0, ta0_3, ta1_3, ta2_3, ta3_3, ta4_3, ta5_3, ta6_3, ta7_3, tbb, tii⟩
    obtain ⟨t0_4, -, ta0_4, ta1_4, ta2_4, ta3_4, ta4_4, ta5_4, ta6_4, ta7_4, -, -⟩ := id tw_4
    subst hQ
    exact s_retv F hW (⟨rfl, tw_4, fm_3⟩) ⟨(Nat.le_of_ble_eq_true rfl), (Nat.le_of_ble_eq_true rfl)⟩ dX3_writes_26
  · have hdl := dgs_le (v / 10)
    refine lv_aload_n F.x F.cd dX3_writes_6 rfl (lv_at hl 0 rfl) ?_
    refine lv_iload_n F.x F.cd dX3_writes_7 rfl (lv_at hl 1 rfl) ?_
    refine lv_bipush (v := (nI 10)) F.x F.cd dX3_writes_8 (by decide) ?_
    refine a_idiv (v := (nI (v / 10))) F (pk_div (by omega) (by omega) (by omega)) (by decide) dX3_writes_10 ?_
    refine s_callV (As := [.int (nI (v / 10))]) (rest := []) (C := RX3) (T := TX3) (N := 18) (n := 1) F hW (k_X3_wr_2 g l σ m A _ _ _ _ w (v / 10) tw_1 rfl (by omega) (by omega)) (t0_1) rfl q2662 q2664 qs58 q79 q2665 rfl (by decide +kernel) rfl ⟨⟨Nat.le_of_ble_eq_true rfl, Nat.le_of_ble_eq_true rfl⟩, ⟨(Nat.le_of_ble_eq_true rfl), (Nat.le_of_ble_eq_true rfl)⟩⟩ (Nat.le_of_ble_eq_true rfl) hl.1 rfl dX3_writes_11 cX_no (fun r5 σ5 H locs hp5 hW => ?_)
    obtain ⟨rfl, tv5, fv5⟩ := hp5
    refine W.eq (g2 := F0 m_ 14 ls ([])) rfl ?_
    obtain ⟨t0_6, -, ta0_6, ta1_6, ta2_6, ta3_6, ta4_6, ta5_6, ta6_6, ta7_6, -, -⟩ := id tv5
    have fm_6 : Fm σ σ5 m A := (Fm.refl).trans fv5
    have tw_6 : IsTw g σ5 m A (va_up iv 8 (nI (w + (dgs (v / 10)).length))) wd (va_up ar 5 (apd (ar 5) w (dgs (v / 10)))) rb := ⟨t0_6, tb0, ta0_6, ta1_6, ta2_6, ta3_6, ta4_6, ta5_6, ta6_6, ta7_6, tbb, tii⟩
    refine lv_aload_n F.x F.cd dX3_writes_14 rfl (lv_at hl 0 rfl) ?_
    refine lv_bipush (v := (nI 48)) F.x F.cd dX3_writes_15 (by decide) ?_
    refine lv_iload_n F.x F.cd dX3_writes_17 rfl (lv_at hl 1 rfl) ?_
    refine lv_bipush (v := (nI 10)) F.x F.cd dX3_writes_18 (by decide) ?_
    refine a_irem (v := (nI (v % 10))) F (rem10 _ (by omega)) (by decide) dX3_writes_20 ?_
    refine a_iadd (v := (nI (48 + (v % 10)))) F (nI_add _ _) dX3_writes_21 ?_
    refine lv_i2c (v := (nI (48 + (v % 10)))) F.x F.cd dX3_writes_22 (i2c_nI _ (by omega)) ?_
    refine s_callV (As := [.int (nI (48 + (v % 10)))]) (rest := []) (C := RX3) (T := TX3) (N := 18) (n := 1) F hW (k_X3_signs g l σ5 m A _ _ _ _ (w + (dgs (v / 10)).length) (48 + (v % 10)) tw_6 rfl (by omega) (by omega)) (t0_6) rfl q2666 q2668 qs59 q79 q2669 rfl (by decide +kernel) rfl ⟨⟨Nat.le_of_ble_eq_true rfl, Nat.le_of_ble_eq_true rfl⟩, ⟨(Nat.le_of_ble_eq_true rfl), (Nat.le_of_ble_eq_true rfl)⟩⟩ (Nat.le_of_ble_eq_true rfl) hl.1 rfl dX3_writes_23 cX_no (fun r7 σ7 H locs hp7 hW => ?_)
    obtain ⟨rfl, tv7, fv7⟩ := hp7
    refine W.eq (g2 := F0 m_ 26 ls ([])) rfl ?_
    obtain ⟨t0_8, -, ta0_8, ta1_8, ta2_8, ta3_8, ta4_8, ta5_8, ta6_8, ta7_8, -, -⟩ := id tv7
    have fm_8 : Fm σ σ7 m A := (fm_6).trans fv7
    have tw_8 : IsTw g σ7 m A (va_up iv 8 (nI (w + (dgs (v / 10)).length + 1))) wd (va_up ar 5 (apd (apd (ar 5) w (dgs (v / 10))) (w + (dgs (v / 10)).length) [48 + (v % 10)])) rb := ⟨t0_8, tb0, ta0_8, ta1_8, ta2_8, ta3_8, ta4_8, ta5_8, ta6_8, ta7_8, tbb, tii⟩
    have tw_9 : IsTw g σ7 m A (va_up iv 8 (nI (w + (dgs v).length))) wd (va_up ar 5 (apd (ar 5) w (dgs v))) rb := by
      rw [dgs_rec (by omega) (by omega), ← apd_app, List.length_append, ← Nat.add_assoc]
      exact ⟨t0_8, tb0, ta0_8, ta1_8, ta2_8, ta3_8, ta4_8, ta5_8, ta6_8, ta7_8, tbb, tii⟩
    obtain ⟨t0_9, -, ta0_9, ta1_9, ta2_9, ta3_9, ta4_9, ta5_9, ta6_9, ta7_9, -, -⟩ := id tw_9
    subst hQ
    exact s_retv F hW (⟨rfl, tw_9, fm_8⟩) ⟨(Nat.le_of_ble_eq_true rfl), (Nat.le_of_ble_eq_true rfl)⟩ dX3_writes_26
set_option maxHeartbeats 4000000 in
theorem k_X3_writes_2 (g : Gh) (l : Launch) (σ : Sto) (m : Nat) (A : Nat → Nat) (iv : Nat → Int32) (wd : Nat) (ar : Nat → Nat → Nat) (rb : Nat → Bool) (w c v : Nat) (hw : IsTw g σ m A iv wd ar rb) (h8 : iv 8 = nI w) (hw60 : w + 4 < 60) (hc : c < 65536) (hv : v < 1000) : Ct g l yX3_writes_2 cX3_writes_2 3 none ({ frames := 4, cells := 0, slots := 0, locals := 84 } : Room) [.ref m, .int (nI c), .int (nI v)] σ (fun r σ' => r = none ∧ IsTw g σ' m A (va_up iv 8 (nI (w + (c :: dgs v).length))) wd (va_up ar 5 (apd (ar 5) w (c :: dgs v))) rb ∧ Fm σ σ' m A) (nox) := by
  refine Ct.body (by decide) (Nat.le_of_ble_eq_true rfl) ?_
  intro p_ e_ s_ m_ args_ below_ meth_ c_ ls H locs Q F hW hl hQ
  have hl : lv_has ls 3 [(0, .ref m), (1, .int (nI c)), (2, .int (nI v))] := hl
  obtain ⟨t0, tb0, ta0, ta1, ta2, ta3, ta4, ta5, ta6, ta7, tbb, tii⟩ := id hw
  have tw_1 : IsTw g σ m A (va_up iv 8 (nI w)) wd ar rb := by
    rw [← h8]
    exact ⟨t0, tb0, ta0, ta1, ta2, ta3, ta4, ta5, ta6, ta7, tbb, tii⟩
  obtain ⟨t0_1, -, ta0_1, ta1_1, ta2_1, ta3_1, ta4_1, ta5_1, ta6_1, ta7_1, -, -⟩ := id tw_1
  refine lv_aload_n F.x F.cd dX3_writes_2_0 rfl (lv_at hl 0 rfl) ?_
  refine lv_iload_n F.x F.cd dX3_writes_2_1 rfl (lv_at hl 1 rfl) ?_
  refine s_callV (As := [.int (nI c)]) (rest := []) (C := RX3) (T := TX3) (N := 18) (n := 1) F hW (k_X3_signs g l σ m A _ _ _ _ w c tw_1 rfl (by omega) (by omega)) (t0_1) rfl q2666 q2668 qs59 q79 q2669 rfl (by decide +kernel) rfl ⟨⟨Nat.le_of_ble_eq_true rfl, Nat.le_of_ble_eq_true rfl⟩, ⟨(Nat.le_of_ble_eq_true rfl), (Nat.le_of_ble_eq_true rfl)⟩⟩ (Nat.le_of_ble_eq_true rfl) hl.1 rfl dX3_writes_2_2 cX_no (fun r2 σ2 H locs hp2 hW => ?_)
  obtain ⟨rfl, tv2, fv2⟩ := hp2
  refine W.eq (g2 := F0 m_ 5 ls ([])) rfl ?_
  obtain ⟨t0_3, -, ta0_3, ta1_3, ta2_3, ta3_3, ta4_3, ta5_3, ta6_3, ta7_3, -, -⟩ := id tv2
  have fm_3 : Fm σ σ2 m A := (Fm.refl).trans fv2
  have tw_3 : IsTw g σ2 m A (va_up iv 8 (nI (w + 1))) wd (va_up ar 5 (apd (ar 5) w [c])) rb := ⟨t0_3, tb0, ta0_3, ta1_3, ta2_3, ta3_3, ta4_3, ta5_3, ta6_3, ta7_3, tbb, tii⟩
  refine lv_aload_n F.x F.cd dX3_writes_2_5 rfl (lv_at hl 0 rfl) ?_
  refine lv_iload_n F.x F.cd dX3_writes_2_6 rfl (lv_at hl 2 rfl) ?_
  refine s_callV (As := [.int (nI v)]) (rest := []) (C := RX3) (T := TX3) (N := 18) (n := 1) F hW (k_X3_wr_3 g l σ2 m A _ _ _ _ (w + 1) v tw_3 rfl (by omega) (by omega)) (t0_3) rfl q2662 q2664 qs58 q79 q2665 rfl (by decide +kernel) rfl ⟨⟨Nat.le_of_ble_eq_true rfl, Nat.le_of_ble_eq_true rfl⟩, ⟨(Nat.le_of_ble_eq_true rfl), (Nat.le_of_ble_eq_true rfl)⟩⟩ (Nat.le_of_ble_eq_true rfl) hl.1 rfl dX3_writes_2_7 cX_no (fun r4 σ4 H locs hp4 hW => ?_)
  obtain ⟨rfl, tv4, fv4⟩ := hp4
  refine W.eq (g2 := F0 m_ 10 ls ([])) rfl ?_
  obtain ⟨t0_5, -, ta0_5, ta1_5, ta2_5, ta3_5, ta4_5, ta5_5, ta6_5, ta7_5, -, -⟩ := id tv4
  have fm_5 : Fm σ σ4 m A := (fm_3).trans fv4
  have tw_5 : IsTw g σ4 m A (va_up iv 8 (nI (w + 1 + (dgs v).length))) wd (va_up ar 5 (apd (apd (ar 5) w [c]) (w + 1) (dgs v))) rb := ⟨t0_5, tb0, ta0_5, ta1_5, ta2_5, ta3_5, ta4_5, ta5_5, ta6_5, ta7_5, tbb, tii⟩
  have tw_6 : IsTw g σ4 m A (va_up iv 8 (nI (w + (c :: dgs v).length))) wd (va_up ar 5 (apd (ar 5) w (c :: dgs v))) rb := by
    rw [show c :: dgs v = [c] ++ dgs v from rfl, ← apd_app, List.length_append, ← Nat.add_assoc]
    exact ⟨t0_5, tb0, ta0_5, ta1_5, ta2_5, ta3_5, ta4_5, ta5_5, ta6_5, ta7_5, tbb, tii⟩
  obtain ⟨t0_6, -, ta0_6, ta1_6, ta2_6, ta3_6, ta4_6, ta5_6, ta6_6, ta7_6, -, -⟩ := id tw_6
  subst hQ
  exact s_retv F hW (⟨rfl, tw_6, fm_5⟩) ⟨(Nat.le_of_ble_eq_true rfl), (Nat.le_of_ble_eq_true rfl)⟩ dX3_writes_2_10
set_option maxHeartbeats 4000000 in
theorem k_X3_renderTank (g : Gh) (l : Launch) (σ : Sto) (m : Nat) (A : Nat → Nat) (iv : Nat → Int32) (wd : Nat) (ar : Nat → Nat → Nat) (rb : Nat → Bool) (x : Int32) (hw : IsTw g σ m A iv wd ar rb) (hI : Inv (ar 0)) : Ct g l yX3_renderTank cX3_renderTank 4 (some .int) ({ frames := 5, cells := 0, slots := 0, locals := 106 } : Room) [.ref m, .int x] σ (fun r σ' => (∃ i, i < ar 0 0 ∧ x = nI i ∧ r = some (.int (nI (rtL (ar 0) i).length)) ∧ IsTw g σ' m A (va_up (va_up iv 8 (nI (rtL (ar 0) i).length)) 17 (nI 0)) wd (va_up ar 5 (apd (ar 5) 0 (rtL (ar 0) i))) rb ∧ Fm σ σ' m A) ∨ (inN x (ar 0 0) = false ∧ r = some (.int (nI 0)) ∧ IsTw g σ' m A (va_up iv 17 (nI 1)) wd ar rb ∧ Fm σ σ' m A)) (nox) := by
  refine Ct.body (by decide) (Nat.le_of_ble_eq_true rfl) ?_
  intro p_ e_ s_ m_ args_ below_ meth_ c_ ls H locs Q F hW hl hQ
  have hl : lv_has ls 4 [(0, .ref m), (1, .int x)] := hl
  obtain ⟨t0, tb0, ta0, ta1, ta2, ta3, ta4, ta5, ta6, ta7, tbb, tii⟩ := id hw
  have hv0 := hI.1
  have hv1 := hI.2.1
  refine lv_aload_n F.x F.cd dX3_renderTank_0 rfl (lv_at hl 0 rfl) ?_
  refine lv_iload_n F.x F.cd dX3_renderTank_1 rfl (lv_at hl 1 rfl) ?_
  refine lv_iconst (v := (nI 2)) F.x F.cd dX3_renderTank_2 (by decide) ?_
  refine s_callV (As := [.int x, .int (nI 2)]) (rest := []) (C := RX3) (T := TX3) (N := 18) (n := 2) F hW (k_X3_ofTank g l σ m A _ _ _ _ x 2 hw hI (by omega)) (t0) rfl q2460 q2462 qs50 q79 q2463 rfl (by decide +kernel) rfl ⟨⟨Nat.le_of_ble_eq_true rfl, Nat.le_of_ble_eq_true rfl⟩, ⟨(Nat.le_of_ble_eq_true rfl), (Nat.le_of_ble_eq_true rfl)⟩⟩ (Nat.le_of_ble_eq_true rfl) hl.1 rfl dX3_renderTank_3 cX_no (fun r1 σ1 H locs hp1 hW => ?_)
  rcases hp1 with ⟨i1, hi1, rfl, rfl, tv1, fv1⟩ | ⟨hz1, rfl, tv1, fv1⟩
  · have hi1 : i1 < (ar 0) 0 := hi1
    refine W.eq (g2 := F0 m_ 6 ls (.int (nI (tI (ar 0) i1)) :: [])) rfl ?_
    obtain ⟨t0_2, -, ta0_2, ta1_2, ta2_2, ta3_2, ta4_2, ta5_2, ta6_2, ta7_2, -, -⟩ := id tv1
    have fm_2 : Fm σ σ1 m A := (Fm.refl).trans fv1
    have tw_2 : IsTw g σ1 m A (va_up iv 17 (nI 0)) wd ar rb := ⟨t0_2, tb0, ta0_2, ta1_2, ta2_2, ta3_2, ta4_2, ta5_2, ta6_2, ta7_2, tbb, tii⟩
    refine lv_istore_n (lv' := [(2, .int (nI (tI (ar 0) i1))), (0, .ref m), (1, .int (nI i1))]) F.x F.cd dX3_renderTank_6 rfl hl (by decide) rfl (fun ls hl => ?_)
    refine lv_aload_n F.x F.cd dX3_renderTank_7 rfl (lv_at hl 1 rfl) ?_
    refine s_get F hW (ci := 7) (C := RX3) (T := TX3) (N := 18) (v := .int (nI 0)) (t0_2) rfl in_X3 17 (by decide) q2296 (fun _ h9 => h9) rfl dX3_renderTank_8 ?_
    refine n_if_le (a := 0) (tgt := 16) F (by omega) dX3_renderTank_11 (by decide) (fun c_11 => ?_) (fun c_11 => absurd (by decide) c_11)
    have hti := hI.tk hi1
    have hd_2 := dgs_le (i1)
    have hd_3 := dgs_le (tK (ar 0) i1)
    have hd_4 := dgs_le (tC (ar 0) i1)
    refine lv_aload_n F.x F.cd dX3_renderTank_16 rfl (lv_at hl 1 rfl) ?_
    refine lv_iconst (v := (nI 0)) F.x F.cd dX3_renderTank_17 (by decide) ?_
    refine s_put F hW (ci := 7) (C := RX3) (T := TX3) (N := 18) (v := .int (nI 0)) (ty := .int) (t0_2) (tb0) rfl in_X3 tyX3_ok nmX3 8 (by decide) q2287 (fun _ h9 => h9) rfl (by decide +kernel) rfl rfl (Nat.le_of_ble_eq_true rfl) dX3_renderTank_18 (fun H locs hW => ?_)
    obtain ⟨σ7, hσ7⟩ : ∃ z, z = sset σ1 m (.inr (7, [.ref (A 0), .ref (A 1), .ref (A 2), .int (iv 3), .ref (A 3), .int (iv 5), .ref (A 4), .ref (A 5), .int (nI 0), .ref (A 6), .int (iv 10), .int (iv 11), .ref wd, .ref (A 7), .int (iv 14), .int (iv 15), .int (iv 16), .int (nI 0)])) := ⟨_, rfl⟩
    have hW : Hl g σ7 H locs := by rw [hσ7]; exact hW
    have w7 : σ7 m = some (.inr (7, [.ref (A 0), .ref (A 1), .ref (A 2), .int (iv 3), .ref (A 3), .int (iv 5), .ref (A 4), .ref (A 5), .int (nI 0), .ref (A 6), .int (iv 10), .int (iv 11), .ref wd, .ref (A 7), .int (iv 14), .int (iv 15), .int (iv 16), .int (nI 0)])) := by rw [hσ7]; exact sset_eq
    have f8 : σ7 (A 0) = some (eI g 0 114 (fun x9 => nI ((ar 0) x9))) := by rw [hσ7, sset_ne (sto_ne t0_2 ta0_2 (by simp))]; exact ta0_2
    have f9 : σ7 (A 1) = some (eI g 0 114 (fun x9 => nI ((ar 1) x9))) := by rw [hσ7, sset_ne (sto_ne t0_2 ta1_2 (by simp))]; exact ta1_2
    have f10 : σ7 (A 2) = some (eI g 0 912 (fun x9 => nI ((ar 2) x9))) := by rw [hσ7, sset_ne (sto_ne t0_2 ta2_2 (by simp))]; exact ta2_2
    have f11 : σ7 (A 3) = some (eI g 0 114 (fun x9 => nI ((ar 3) x9))) := by rw [hσ7, sset_ne (sto_ne t0_2 ta3_2 (by simp))]; exact ta3_2
    have f12 : σ7 (A 4) = some (eI g 2 2048 (fun x9 => bI (rb x9))) := by rw [hσ7, sset_ne (sto_ne t0_2 ta4_2 (by simp))]; exact ta4_2
    have f13 : σ7 (A 5) = some (eI g 3 60 (fun x9 => nI ((ar 5) x9))) := by rw [hσ7, sset_ne (sto_ne t0_2 ta5_2 (by simp))]; exact ta5_2
    have f14 : σ7 (A 6) = some (eI g 3 60 (fun x9 => nI ((ar 6) x9))) := by rw [hσ7, sset_ne (sto_ne t0_2 ta6_2 (by simp))]; exact ta6_2
    have f15 : σ7 (A 7) = some (eI g 0 3 (fun x9 => nI ((ar 7) x9))) := by rw [hσ7, sset_ne (sto_ne t0_2 ta7_2 (by simp))]; exact ta7_2
    refine lv_aload_n F.x F.cd dX3_renderTank_21 rfl (lv_at hl 1 rfl) ?_
    refine lv_iload_n F.x F.cd dX3_renderTank_22 rfl (lv_at hl 2 rfl) ?_
    have tw16 : IsTw g σ7 m A (va_up (va_up iv 8 (nI 0)) 17 (nI 0)) wd ar rb := ⟨w7, tb0, f8, f9, f10, f11, f12, f13, f14, f15, tbb, tii⟩
    have fm16 : Fm σ σ7 m A := by rw [hσ7]; exact (fm_2).setM
    refine s_callV (As := [.int (nI i1)]) (rest := []) (C := RX3) (T := TX3) (N := 18) (n := 1) F hW (k_X3_wr_3 g l σ7 m A _ _ _ _ 0 i1 tw16 rfl (by omega) (by omega)) (w7) rfl q2662 q2664 qs58 q79 q2665 rfl (by decide +kernel) rfl ⟨⟨Nat.le_of_ble_eq_true rfl, Nat.le_of_ble_eq_true rfl⟩, ⟨(Nat.le_of_ble_eq_true rfl), (Nat.le_of_ble_eq_true rfl)⟩⟩ (Nat.le_of_ble_eq_true rfl) hl.1 rfl dX3_renderTank_23 cX_no (fun r17 σ17 H locs hp17 hW => ?_)
    obtain ⟨rfl, tv17, fv17⟩ := hp17
    refine W.eq (g2 := F0 m_ 26 ls ([])) rfl ?_
    obtain ⟨t0_18, -, ta0_18, ta1_18, ta2_18, ta3_18, ta4_18, ta5_18, ta6_18, ta7_18, -, -⟩ := id tv17
    have fm_18 : Fm σ σ17 m A := (fm16).trans fv17
    have tw_18 : IsTw g σ17 m A (va_up (va_up iv 8 (nI (0 + (dgs i1).length))) 17 (nI 0)) wd (va_up ar 5 (apd (ar 5) 0 (dgs i1))) rb := ⟨t0_18, tb0, ta0_18, ta1_18, ta2_18, ta3_18, ta4_18, ta5_18, ta6_18, ta7_18, tbb, tii⟩
    have tw_19 : IsTw g σ17 m A (va_up (va_up iv 8 (nI ((dgs i1).length))) 17 (nI 0)) wd (va_up ar 5 (apd (ar 5) 0 (dgs i1))) rb := by
      rw [show (dgs i1).length = 0 + (dgs i1).length by omega]
      exact ⟨t0_18, tb0, ta0_18, ta1_18, ta2_18, ta3_18, ta4_18, ta5_18, ta6_18, ta7_18, tbb, tii⟩
    obtain ⟨t0_19, -, ta0_19, ta1_19, ta2_19, ta3_19, ta4_19, ta5_19, ta6_19, ta7_19, -, -⟩ := id tw_19
    refine lv_aload_n F.x F.cd dX3_renderTank_26 rfl (lv_at hl 1 rfl) ?_
    refine lv_bipush (v := (nI 61)) F.x F.cd dX3_renderTank_27 (by decide) ?_
    refine lv_aload_n F.x F.cd dX3_renderTank_29 rfl (lv_at hl 1 rfl) ?_
    refine lv_iload_n F.x F.cd dX3_renderTank_30 rfl (lv_at hl 2 rfl) ?_
    refine lv_iconst (v := (nI 1)) F.x F.cd dX3_renderTank_31 (by decide) ?_
    refine s_callV (As := [.int (nI i1), .int (nI 1)]) (rest := [.int (nI 61), .ref m]) (C := RX3) (T := TX3) (N := 18) (n := 2) F hW (k_X3_tank g l σ17 m A _ _ _ _ i1 1 tw_19 (by omega) (by omega)) (t0_19) rfl q2438 q2440 qs49 q79 q2441 rfl (by decide +kernel) rfl ⟨⟨Nat.le_of_ble_eq_true rfl, Nat.le_of_ble_eq_true rfl⟩, ⟨(Nat.le_of_ble_eq_true rfl), (Nat.le_of_ble_eq_true rfl)⟩⟩ (Nat.le_of_ble_eq_true rfl) hl.1 rfl dX3_renderTank_32 cX_no (fun r20 σ20 H locs hp20 hW => ?_)
    obtain ⟨rfl, hs20⟩ := hp20
    rw [hs20] at hW
    refine W.eq (g2 := F0 m_ 35 ls (.int (nI (tK (ar 0) i1)) :: .int (nI 61) :: .ref m :: [])) rfl ?_
    refine s_callV (As := [.int (nI 61), .int (nI (tK (ar 0) i1))]) (rest := []) (C := RX3) (T := TX3) (N := 18) (n := 2) F hW (k_X3_writes_2 g l σ17 m A _ _ _ _ ((dgs i1).length) 61 (tK (ar 0) i1) tw_19 rfl (by omega) (by omega) (by omega)) (t0_19) rfl q2670 q2672 qs60 q79 q2673 rfl (by decide +kernel) rfl ⟨⟨Nat.le_of_ble_eq_true rfl, Nat.le_of_ble_eq_true rfl⟩, ⟨(Nat.le_of_ble_eq_true rfl), (Nat.le_of_ble_eq_true rfl)⟩⟩ (Nat.le_of_ble_eq_true rfl) hl.1 rfl dX3_renderTank_35 cX_no (fun r21 σ21 H locs hp21 hW => ?_)
    obtain ⟨rfl, tv21, fv21⟩ := hp21
    refine W.eq (g2 := F0 m_ 38 ls ([])) rfl ?_
    obtain ⟨t0_22, -, ta0_22, ta1_22, ta2_22, ta3_22, ta4_22, ta5_22, ta6_22, ta7_22, -, -⟩ := id tv21
    have fm_22 : Fm σ σ21 m A := (fm_18).trans fv21
    have tw_22 : IsTw g σ21 m A (va_up (va_up iv 8 (nI ((dgs i1).length + (61 :: dgs (tK (ar 0) i1)).length))) 17 (nI 0)) wd (va_up ar 5 (apd (apd (ar 5) 0 (dgs i1)) ((dgs i1).length) (61 :: dgs (tK (ar 0) i1)))) rb := ⟨t0_22, tb0, ta0_22, ta1_22, ta2_22, ta3_22, ta4_22, ta5_22, ta6_22, ta7_22, tbb, tii⟩
    have tw_23 : IsTw g σ21 m A (va_up (va_up iv 8 (nI ((dgs i1 ++ (61 :: dgs (tK (ar 0) i1))).length))) 17 (nI 0)) wd (va_up ar 5 (apd (ar 5) 0 (dgs i1 ++ (61 :: dgs (tK (ar 0) i1))))) rb := by
      rw [List.length_append (as := dgs i1), ← apd_app0]
      exact ⟨t0_22, tb0, ta0_22, ta1_22, ta2_22, ta3_22, ta4_22, ta5_22, ta6_22, ta7_22, tbb, tii⟩
    obtain ⟨t0_23, -, ta0_23, ta1_23, ta2_23, ta3_23, ta4_23, ta5_23, ta6_23, ta7_23, -, -⟩ := id tw_23
    have hb24 : (dgs i1 ++ (61 :: dgs (tK (ar 0) i1))).length ≤ 30 := by simp only [List.length_append, List.length_cons, List.length_nil]; omega
    refine lv_aload_n F.x F.cd dX3_renderTank_38 rfl (lv_at hl 1 rfl) ?_
    refine lv_bipush (v := (nI 47)) F.x F.cd dX3_renderTank_39 (by decide) ?_
    refine lv_aload_n F.x F.cd dX3_renderTank_41 rfl (lv_at hl 1 rfl) ?_
    refine lv_iload_n F.x F.cd dX3_renderTank_42 rfl (lv_at hl 2 rfl) ?_
    refine lv_iconst (v := (nI 0)) F.x F.cd dX3_renderTank_43 (by decide) ?_
    refine s_callV (As := [.int (nI i1), .int (nI 0)]) (rest := [.int (nI 47), .ref m]) (C := RX3) (T := TX3) (N := 18) (n := 2) F hW (k_X3_tank g l σ21 m A _ _ _ _ i1 0 tw_23 (by omega) (by omega)) (t0_23) rfl q2438 q2440 qs49 q79 q2441 rfl (by decide +kernel) rfl ⟨⟨Nat.le_of_ble_eq_true rfl, Nat.le_of_ble_eq_true rfl⟩, ⟨(Nat.le_of_ble_eq_true rfl), (Nat.le_of_ble_eq_true rfl)⟩⟩ (Nat.le_of_ble_eq_true rfl) hl.1 rfl dX3_renderTank_44 cX_no (fun r25 σ25 H locs hp25 hW => ?_)
    obtain ⟨rfl, hs25⟩ := hp25
    rw [hs25] at hW
    refine W.eq (g2 := F0 m_ 47 ls (.int (nI (tC (ar 0) i1)) :: .int (nI 47) :: .ref m :: [])) rfl ?_
    refine s_callV (As := [.int (nI 47), .int (nI (tC (ar 0) i1))]) (rest := []) (C := RX3) (T := TX3) (N := 18) (n := 2) F hW (k_X3_writes_2 g l σ21 m A _ _ _ _ ((dgs i1 ++ (61 :: dgs (tK (ar 0) i1))).length) 47 (tC (ar 0) i1) tw_23 rfl (by omega) (by omega) (by omega)) (t0_23) rfl q2670 q2672 qs60 q79 q2673 rfl (by decide +kernel) rfl ⟨⟨Nat.le_of_ble_eq_true rfl, Nat.le_of_ble_eq_true rfl⟩, ⟨(Nat.le_of_ble_eq_true rfl), (Nat.le_of_ble_eq_true rfl)⟩⟩ (Nat.le_of_ble_eq_true rfl) hl.1 rfl dX3_renderTank_47 cX_no (fun r26 σ26 H locs hp26 hW => ?_)
    obtain ⟨rfl, tv26, fv26⟩ := hp26
    refine W.eq (g2 := F0 m_ 50 ls ([])) rfl ?_
    obtain ⟨t0_27, -, ta0_27, ta1_27, ta2_27, ta3_27, ta4_27, ta5_27, ta6_27, ta7_27, -, -⟩ := id tv26
    have fm_27 : Fm σ σ26 m A := (fm_22).trans fv26
    have tw_27 : IsTw g σ26 m A (va_up (va_up iv 8 (nI ((dgs i1 ++ (61 :: dgs (tK (ar 0) i1))).length + (47 :: dgs (tC (ar 0) i1)).length))) 17 (nI 0)) wd (va_up ar 5 (apd (apd (ar 5) 0 (dgs i1 ++ (61 :: dgs (tK (ar 0) i1)))) ((dgs i1 ++ (61 :: dgs (tK (ar 0) i1))).length) (47 :: dgs (tC (ar 0) i1)))) rb := ⟨t0_27, tb0, ta0_27, ta1_27, ta2_27, ta3_27, ta4_27, ta5_27, ta6_27, ta7_27, tbb, tii⟩
    have tw_28 : IsTw g σ26 m A (va_up (va_up iv 8 (nI ((dgs i1 ++ (61 :: dgs (tK (ar 0) i1)) ++ (47 :: dgs (tC (ar 0) i1))).length))) 17 (nI 0)) wd (va_up ar 5 (apd (ar 5) 0 (dgs i1 ++ (61 :: dgs (tK (ar 0) i1)) ++ (47 :: dgs (tC (ar 0) i1))))) rb := by
      rw [List.length_append (as := dgs i1 ++ (61 :: dgs (tK (ar 0) i1))), ← apd_app0]
      exact ⟨t0_27, tb0, ta0_27, ta1_27, ta2_27, ta3_27, ta4_27, ta5_27, ta6_27, ta7_27, tbb, tii⟩
    obtain ⟨t0_28, -, ta0_28, ta1_28, ta2_28, ta3_28, ta4_28, ta5_28, ta6_28, ta7_28, -, -⟩ := id tw_28
    have hb29 : (dgs i1 ++ (61 :: dgs (tK (ar 0) i1)) ++ (47 :: dgs (tC (ar 0) i1))).length ≤ 30 := by simp only [List.length_append, List.length_cons, List.length_nil]; omega
    refine lv_iload_n F.x F.cd dX3_renderTank_50 rfl (lv_at hl 0 rfl) ?_
    refine n_if_le (a := tI (ar 0) i1) (tgt := 60) F (by omega) dX3_renderTank_51 (by decide) (fun c_51 => ?_) (fun c_51 => ?_)
    · have tw_30 : IsTw g σ26 m A (va_up (va_up iv 8 (nI ((dgs i1 ++ (61 :: dgs (tK (ar 0) i1)) ++ (47 :: dgs (tC (ar 0) i1)) ++ (if 0 < tI (ar 0) i1 then [58] else [])).length))) 17 (nI 0)) wd (va_up ar 5 (apd (ar 5) 0 (dgs i1 ++ (61 :: dgs (tK (ar 0) i1)) ++ (47 :: dgs (tC (ar 0) i1)) ++ (if 0 < tI (ar 0) i1 then [58] else [])))) rb := by
        rw [if_neg (by omega), List.append_nil]
        exact ⟨t0_28, tb0, ta0_28, ta1_28, ta2_28, ta3_28, ta4_28, ta5_28, ta6_28, ta7_28, tbb, tii⟩
      obtain ⟨t0_30, -, ta0_30, ta1_30, ta2_30, ta3_30, ta4_30, ta5_30, ta6_30, ta7_30, -, -⟩ := id tw_30
      have hz31 : (if 0 < tI (ar 0) i1 then [58] else []).length ≤ 1 := by split <;> decide
      have hb32 : (dgs i1 ++ (61 :: dgs (tK (ar 0) i1)) ++ (47 :: dgs (tC (ar 0) i1)) ++ (if 0 < tI (ar 0) i1 then [58] else [])).length ≤ 30 := by simp only [List.length_append, List.length_cons, List.length_nil]; omega
      refine lv_iconst (v := (nI 0)) F.x F.cd dX3_renderTank_60 (by decide) ?_
      refine lv_istore_n (lv' := [(3, .int (nI 0)), (2, .int (nI (tI (ar 0) i1))), (0, .ref m), (1, .int (nI i1))]) F.x F.cd dX3_renderTank_61 rfl hl (by decide) rfl (fun ls hl => ?_)
      have loop62 : ∀ (nk : Nat) (k : Nat) (σk : Sto) , k + nk = 8 → IsTw g σk m A (va_up (va_up iv 8 (nI ((dgs i1 ++ (61 :: dgs (tK (ar 0) i1)) ++ (47 :: dgs (tC (ar 0) i1)) ++ (if 0 < tI (ar 0) i1 then [58] else []) ++ lts (tI (ar 0) i1) k).length))) 17 (nI 0)) wd (va_up ar 5 (apd (ar 5) 0 (dgs i1 ++ (61 :: dgs (tK (ar 0) i1)) ++ (47 :: dgs (tC (ar 0) i1)) ++ (if 0 < tI (ar 0) i1 then [58] else []) ++ lts (tI (ar 0) i1) k))) rb → Fm σ σk m A → ∀ (H : Heap) (locs : List Loc) (ls : Array Slot), Hl g σk H locs → lv_has ls 4 [(0, .ref m), (1, .int (nI i1)), (2, .int (nI (tI (ar 0) i1))), (3, .int (nI k))] → W p_ l e_ ({ frames := 5, cells := 0, slots := 0, locals := 106 } : Room) s_ m_ args_ below_ meth_ c_ H locs 0 0 Q (F0 m_ 62 ls ([])) := by
        intro nk
        induction nk with
        | zero =>
          intro k σk  hknk twk fmk H locs ls hW hl
          obtain ⟨t0_k33, -, ta0_k33, ta1_k33, ta2_k33, ta3_k33, ta4_k33, ta5_k33, ta6_k33, ta7_k33, -, -⟩ := id twk
          have hlk := lts_le (tI (ar 0) i1) k
          have hlk2 : (dgs i1 ++ (61 :: dgs (tK (ar 0) i1)) ++ (47 :: dgs (tC (ar 0) i1)) ++ (if 0 < tI (ar 0) i1 then [58] else []) ++ lts (tI (ar 0) i1) k).length = (dgs i1 ++ (61 :: dgs (tK (ar 0) i1)) ++ (47 :: dgs (tC (ar 0) i1)) ++ (if 0 < tI (ar 0) i1 then [58] else [])).length + (lts (tI (ar 0) i1) k).length := List.length_append
          refine lv_iload_n F.x F.cd dX3_renderTank_62 rfl (lv_at hl 3 rfl) ?_
          refine lv_bipush (v := (nI 8)) F.x F.cd dX3_renderTank_63 (by decide) ?_
          refine n_icmp_ge (a := k) (b := 8) (tgt := 92) F (by omega) (by omega) dX3_renderTank_65 (by decide) (fun c_65 => ?_) (fun c_65 => ?_)
          · have tw_34 : IsTw g σk m A (va_up (va_up iv 8 (nI ((rtL (ar 0) i1).length))) 17 (nI 0)) wd (va_up ar 5 (apd (ar 5) 0 (rtL (ar 0) i1))) rb := by
              have e9 : k = 8 := by omega
              subst e9
              rw [rtL]
              exact ⟨t0_k33, tb0, ta0_k33, ta1_k33, ta2_k33, ta3_k33, ta4_k33, ta5_k33, ta6_k33, ta7_k33, tbb, tii⟩
            obtain ⟨t0_34, -, ta0_34, ta1_34, ta2_34, ta3_34, ta4_34, ta5_34, ta6_34, ta7_34, -, -⟩ := id tw_34
            refine lv_aload_n F.x F.cd dX3_renderTank_92 rfl (lv_at hl 0 rfl) ?_
            refine s_get F hW (ci := 7) (C := RX3) (T := TX3) (N := 18) (v := .int (nI ((rtL (ar 0) i1).length))) (t0_34) rfl in_X3 8 (by decide) q2287 (fun _ h9 => h9) rfl dX3_renderTank_93 ?_
            subst hQ
            exact s_reti (v := (nI ((rtL (ar 0) i1).length))) F hW rfl (Or.inl ⟨i1, hi1, rfl, rfl, tw_34, fmk⟩) ⟨(Nat.le_of_ble_eq_true rfl), (Nat.le_of_ble_eq_true rfl)⟩ dX3_renderTank_96
          · exact absurd c_65 (by omega)
        | succ nk ih62 =>
          intro k σk  hknk twk fmk H locs ls hW hl
          obtain ⟨t0_k33, -, ta0_k33, ta1_k33, ta2_k33, ta3_k33, ta4_k33, ta5_k33, ta6_k33, ta7_k33, -, -⟩ := id twk
          have hlk := lts_le (tI (ar 0) i1) k
          have hlk2 : (dgs i1 ++ (61 :: dgs (tK (ar 0) i1)) ++ (47 :: dgs (tC (ar 0) i1)) ++ (if 0 < tI (ar 0) i1 then [58] else []) ++ lts (tI (ar 0) i1) k).length = (dgs i1 ++ (61 :: dgs (tK (ar 0) i1)) ++ (47 :: dgs (tC (ar 0) i1)) ++ (if 0 < tI (ar 0) i1 then [58] else [])).length + (lts (tI (ar 0) i1) k).length := List.length_append
          refine lv_iload_n F.x F.cd dX3_renderTank_62 rfl (lv_at hl 3 rfl) ?_
          refine lv_bipush (v := (nI 8)) F.x F.cd dX3_renderTank_63 (by decide) ?_
          refine n_icmp_ge (a := k) (b := 8) (tgt := 92) F (by omega) (by omega) dX3_renderTank_65 (by decide) (fun c_65 => ?_) (fun c_65 => ?_)
          · exact absurd c_65 (by omega)
          · refine lv_iload_n F.x F.cd dX3_renderTank_68 rfl (lv_at hl 2 rfl) ?_
            refine lv_iload_n F.x F.cd dX3_renderTank_69 rfl (lv_at hl 3 rfl) ?_
            refine a_ishr (v := ((nI (tI (ar 0) i1)) >>> ((nI k) &&& 31))) F (rfl) dX3_renderTank_70 ?_
            refine lv_iconst (v := (nI 1)) F.x F.cd dX3_renderTank_71 (by decide) ?_
            refine a_iand (v := (bI (((tI (ar 0) i1)).testBit k))) F (bitI _ (by omega) _ (by omega)) dX3_renderTank_72 ?_
            refine lv_iconst (v := (nI 1)) F.x F.cd dX3_renderTank_73 (by decide) ?_
            refine lv_icmp_ne (x := (bI (((tI (ar 0) i1)).testBit k))) (y := (nI 1)) (tgt := 86) F.x F.cd dX3_renderTank_74 (by decide) (fun c_74 => ?_) (fun c_74 => ?_)
            · have tw_35 : IsTw g σk m A (va_up (va_up iv 8 (nI ((dgs i1 ++ (61 :: dgs (tK (ar 0) i1)) ++ (47 :: dgs (tC (ar 0) i1)) ++ (if 0 < tI (ar 0) i1 then [58] else []) ++ lts (tI (ar 0) i1) (k + 1)).length))) 17 (nI 0)) wd (va_up ar 5 (apd (ar 5) 0 (dgs i1 ++ (61 :: dgs (tK (ar 0) i1)) ++ (47 :: dgs (tC (ar 0) i1)) ++ (if 0 < tI (ar 0) i1 then [58] else []) ++ lts (tI (ar 0) i1) (k + 1)))) rb := by
                rw [lts_f (Bool.eq_false_iff.mpr (fun h9 => c_74 (bI_one.mpr h9)))]
                exact ⟨t0_k33, tb0, ta0_k33, ta1_k33, ta2_k33, ta3_k33, ta4_k33, ta5_k33, ta6_k33, ta7_k33, tbb, tii⟩
              obtain ⟨t0_35, -, ta0_35, ta1_35, ta2_35, ta3_35, ta4_35, ta5_35, ta6_35, ta7_35, -, -⟩ := id tw_35
              refine lv_iinc (k := 3) (v := (nI (k + 1))) (lv' := [(3, .int (nI (k + 1))), (0, .ref m), (1, .int (nI i1)), (2, .int (nI (tI (ar 0) i1)))]) F.x F.cd dX3_renderTank_86 hl rfl (inc_nI k 1) (by decide) rfl (fun ls hl => ?_)
              refine lv_goto (tgt := 62) F.x F.cd dX3_renderTank_89 (by decide) ?_
              exact ih62 (k + 1) σk (by omega) (tw_35) (fmk) H locs ls hW (lv_sub hl [1, 2, 3, 0] rfl)
            · refine lv_aload_n F.x F.cd dX3_renderTank_77 rfl (lv_at hl 0 rfl) ?_
              refine lv_bipush (v := (nI 97)) F.x F.cd dX3_renderTank_78 (by decide) ?_
              refine lv_iload_n F.x F.cd dX3_renderTank_80 rfl (lv_at hl 3 rfl) ?_
              refine a_iadd (v := (nI (97 + k))) F (nI_add _ _) dX3_renderTank_81 ?_
              refine lv_i2c (v := (nI (97 + k))) F.x F.cd dX3_renderTank_82 (i2c_nI _ (by omega)) ?_
              refine s_callV (As := [.int (nI (97 + k))]) (rest := []) (C := RX3) (T := TX3) (N := 18) (n := 1) F hW (k_X3_signs g l σk m A _ _ _ _ ((dgs i1 ++ (61 :: dgs (tK (ar 0) i1)) ++ (47 :: dgs (tC (ar 0) i1)) ++ (if 0 < tI (ar 0) i1 then [58] else []) ++ lts (tI (ar 0) i1) k).length) (97 + k) twk rfl (by omega) (by omega)) (t0_k33) rfl q2666 q2668 qs59 q79 q2669 rfl (by decide +kernel) rfl ⟨⟨Nat.le_of_ble_eq_true rfl, Nat.le_of_ble_eq_true rfl⟩, ⟨(Nat.le_of_ble_eq_true rfl), (Nat.le_of_ble_eq_true rfl)⟩⟩ (Nat.le_of_ble_eq_true rfl) hl.1 rfl dX3_renderTank_83 cX_no (fun r37 σ37 H locs hp37 hW => ?_)
              obtain ⟨rfl, tv37, fv37⟩ := hp37
              refine W.eq (g2 := F0 m_ 86 ls ([])) rfl ?_
              obtain ⟨t0_38, -, ta0_38, ta1_38, ta2_38, ta3_38, ta4_38, ta5_38, ta6_38, ta7_38, -, -⟩ := id tv37
              have fm_38 : Fm σ σ37 m A := (fmk).trans fv37
              have tw_38 : IsTw g σ37 m A (va_up (va_up iv 8 (nI ((dgs i1 ++ (61 :: dgs (tK (ar 0) i1)) ++ (47 :: dgs (tC (ar 0) i1)) ++ (if 0 < tI (ar 0) i1 then [58] else []) ++ lts (tI (ar 0) i1) k).length + 1))) 17 (nI 0)) wd (va_up ar 5 (apd (apd (ar 5) 0 (dgs i1 ++ (61 :: dgs (tK (ar 0) i1)) ++ (47 :: dgs (tC (ar 0) i1)) ++ (if 0 < tI (ar 0) i1 then [58] else []) ++ lts (tI (ar 0) i1) k)) ((dgs i1 ++ (61 :: dgs (tK (ar 0) i1)) ++ (47 :: dgs (tC (ar 0) i1)) ++ (if 0 < tI (ar 0) i1 then [58] else []) ++ lts (tI (ar 0) i1) k).length) [97 + k])) rb := ⟨t0_38, tb0, ta0_38, ta1_38, ta2_38, ta3_38, ta4_38, ta5_38, ta6_38, ta7_38, tbb, tii⟩
              have tw_39 : IsTw g σ37 m A (va_up (va_up iv 8 (nI ((dgs i1 ++ (61 :: dgs (tK (ar 0) i1)) ++ (47 :: dgs (tC (ar 0) i1)) ++ (if 0 < tI (ar 0) i1 then [58] else []) ++ lts (tI (ar 0) i1) (k + 1)).length))) 17 (nI 0)) wd (va_up ar 5 (apd (ar 5) 0 (dgs i1 ++ (61 :: dgs (tK (ar 0) i1)) ++ (47 :: dgs (tC (ar 0) i1)) ++ (if 0 < tI (ar 0) i1 then [58] else []) ++ lts (tI (ar 0) i1) (k + 1)))) rb := by
                rw [lts_t (bI_one.mp c_74), ← List.append_assoc, List.length_append (as := dgs i1 ++ (61 :: dgs (tK (ar 0) i1)) ++ (47 :: dgs (tC (ar 0) i1)) ++ (if 0 < tI (ar 0) i1 then [58] else []) ++ lts (tI (ar 0) i1) k), ← apd_app0]
                exact ⟨t0_38, tb0, ta0_38, ta1_38, ta2_38, ta3_38, ta4_38, ta5_38, ta6_38, ta7_38, tbb, tii⟩
              obtain ⟨t0_39, -, ta0_39, ta1_39, ta2_39, ta3_39, ta4_39, ta5_39, ta6_39, ta7_39, -, -⟩ := id tw_39
              refine lv_iinc (k := 3) (v := (nI (k + 1))) (lv' := [(3, .int (nI (k + 1))), (0, .ref m), (1, .int (nI i1)), (2, .int (nI (tI (ar 0) i1)))]) F.x F.cd dX3_renderTank_86 hl rfl (inc_nI k 1) (by decide) rfl (fun ls hl => ?_)
              refine lv_goto (tgt := 62) F.x F.cd dX3_renderTank_89 (by decide) ?_
              exact ih62 (k + 1) σ37 (by omega) (tw_39) (fm_38) H locs ls hW (lv_sub hl [1, 2, 3, 0] rfl)
      exact loop62 (8) 0 _  (by omega) (by rw [lts, List.append_nil]; exact tw_30) (fm_27) H locs ls hW (lv_sub hl [2, 3, 1, 0] rfl)
    · refine lv_aload_n F.x F.cd dX3_renderTank_54 rfl (lv_at hl 1 rfl) ?_
      refine lv_bipush (v := (nI 58)) F.x F.cd dX3_renderTank_55 (by decide) ?_
      refine s_callV (As := [.int (nI 58)]) (rest := []) (C := RX3) (T := TX3) (N := 18) (n := 1) F hW (k_X3_signs g l σ26 m A _ _ _ _ ((dgs i1 ++ (61 :: dgs (tK (ar 0) i1)) ++ (47 :: dgs (tC (ar 0) i1))).length) 58 tw_28 rfl (by omega) (by omega)) (t0_28) rfl q2666 q2668 qs59 q79 q2669 rfl (by decide +kernel) rfl ⟨⟨Nat.le_of_ble_eq_true rfl, Nat.le_of_ble_eq_true rfl⟩, ⟨(Nat.le_of_ble_eq_true rfl), (Nat.le_of_ble_eq_true rfl)⟩⟩ (Nat.le_of_ble_eq_true rfl) hl.1 rfl dX3_renderTank_57 cX_no (fun r41 σ41 H locs hp41 hW => ?_)
      obtain ⟨rfl, tv41, fv41⟩ := hp41
      refine W.eq (g2 := F0 m_ 60 ls ([])) rfl ?_
      obtain ⟨t0_42, -, ta0_42, ta1_42, ta2_42, ta3_42, ta4_42, ta5_42, ta6_42, ta7_42, -, -⟩ := id tv41
      have fm_42 : Fm σ σ41 m A := (fm_27).trans fv41
      have tw_42 : IsTw g σ41 m A (va_up (va_up iv 8 (nI ((dgs i1 ++ (61 :: dgs (tK (ar 0) i1)) ++ (47 :: dgs (tC (ar 0) i1))).length + 1))) 17 (nI 0)) wd (va_up ar 5 (apd (apd (ar 5) 0 (dgs i1 ++ (61 :: dgs (tK (ar 0) i1)) ++ (47 :: dgs (tC (ar 0) i1)))) ((dgs i1 ++ (61 :: dgs (tK (ar 0) i1)) ++ (47 :: dgs (tC (ar 0) i1))).length) [58])) rb := ⟨t0_42, tb0, ta0_42, ta1_42, ta2_42, ta3_42, ta4_42, ta5_42, ta6_42, ta7_42, tbb, tii⟩
      have tw_43 : IsTw g σ41 m A (va_up (va_up iv 8 (nI ((dgs i1 ++ (61 :: dgs (tK (ar 0) i1)) ++ (47 :: dgs (tC (ar 0) i1)) ++ (if 0 < tI (ar 0) i1 then [58] else [])).length))) 17 (nI 0)) wd (va_up ar 5 (apd (ar 5) 0 (dgs i1 ++ (61 :: dgs (tK (ar 0) i1)) ++ (47 :: dgs (tC (ar 0) i1)) ++ (if 0 < tI (ar 0) i1 then [58] else [])))) rb := by
        rw [if_pos (by omega), List.length_append (as := dgs i1 ++ (61 :: dgs (tK (ar 0) i1)) ++ (47 :: dgs (tC (ar 0) i1))), ← apd_app0]
        exact ⟨t0_42, tb0, ta0_42, ta1_42, ta2_42, ta3_42, ta4_42, ta5_42, ta6_42, ta7_42, tbb, tii⟩
      obtain ⟨t0_43, -, ta0_43, ta1_43, ta2_43, ta3_43, ta4_43, ta5_43, ta6_43, ta7_43, -, -⟩ := id tw_43
      have hz44 : (if 0 < tI (ar 0) i1 then [58] else []).length ≤ 1 := by split <;> decide
      have hb45 : (dgs i1 ++ (61 :: dgs (tK (ar 0) i1)) ++ (47 :: dgs (tC (ar 0) i1)) ++ (if 0 < tI (ar 0) i1 then [58] else [])).length ≤ 30 := by simp only [List.length_append, List.length_cons, List.length_nil]; omega
      refine lv_iconst (v := (nI 0)) F.x F.cd dX3_renderTank_60 (by decide) ?_
      refine lv_istore_n (lv' := [(3, .int (nI 0)), (2, .int (nI (tI (ar 0) i1))), (0, .ref m), (1, .int (nI i1))]) F.x F.cd dX3_renderTank_61 rfl hl (by decide) rfl (fun ls hl => ?_)
      have loop62 : ∀ (nk : Nat) (k : Nat) (σk : Sto) , k + nk = 8 → IsTw g σk m A (va_up (va_up iv 8 (nI ((dgs i1 ++ (61 :: dgs (tK (ar 0) i1)) ++ (47 :: dgs (tC (ar 0) i1)) ++ (if 0 < tI (ar 0) i1 then [58] else []) ++ lts (tI (ar 0) i1) k).length))) 17 (nI 0)) wd (va_up ar 5 (apd (ar 5) 0 (dgs i1 ++ (61 :: dgs (tK (ar 0) i1)) ++ (47 :: dgs (tC (ar 0) i1)) ++ (if 0 < tI (ar 0) i1 then [58] else []) ++ lts (tI (ar 0) i1) k))) rb → Fm σ σk m A → ∀ (H : Heap) (locs : List Loc) (ls : Array Slot), Hl g σk H locs → lv_has ls 4 [(0, .ref m), (1, .int (nI i1)), (2, .int (nI (tI (ar 0) i1))), (3, .int (nI k))] → W p_ l e_ ({ frames := 5, cells := 0, slots := 0, locals := 106 } : Room) s_ m_ args_ below_ meth_ c_ H locs 0 0 Q (F0 m_ 62 ls ([])) := by
        intro nk
        induction nk with
        | zero =>
          intro k σk  hknk twk fmk H locs ls hW hl
          obtain ⟨t0_k46, -, ta0_k46, ta1_k46, ta2_k46, ta3_k46, ta4_k46, ta5_k46, ta6_k46, ta7_k46, -, -⟩ := id twk
          have hlk := lts_le (tI (ar 0) i1) k
          have hlk2 : (dgs i1 ++ (61 :: dgs (tK (ar 0) i1)) ++ (47 :: dgs (tC (ar 0) i1)) ++ (if 0 < tI (ar 0) i1 then [58] else []) ++ lts (tI (ar 0) i1) k).length = (dgs i1 ++ (61 :: dgs (tK (ar 0) i1)) ++ (47 :: dgs (tC (ar 0) i1)) ++ (if 0 < tI (ar 0) i1 then [58] else [])).length + (lts (tI (ar 0) i1) k).length := List.length_append
          refine lv_iload_n F.x F.cd dX3_renderTank_62 rfl (lv_at hl 3 rfl) ?_
          refine lv_bipush (v := (nI 8)) F.x F.cd dX3_renderTank_63 (by decide) ?_
          refine n_icmp_ge (a := k) (b := 8) (tgt := 92) F (by omega) (by omega) dX3_renderTank_65 (by decide) (fun c_65 => ?_) (fun c_65 => ?_)
          · have tw_47 : IsTw g σk m A (va_up (va_up iv 8 (nI ((rtL (ar 0) i1).length))) 17 (nI 0)) wd (va_up ar 5 (apd (ar 5) 0 (rtL (ar 0) i1))) rb := by
              have e9 : k = 8 := by omega
              subst e9
              rw [rtL]
              exact ⟨t0_k46, tb0, ta0_k46, ta1_k46, ta2_k46, ta3_k46, ta4_k46, ta5_k46, ta6_k46, ta7_k46, tbb, tii⟩
            obtain ⟨t0_47, -, ta0_47, ta1_47, ta2_47, ta3_47, ta4_47, ta5_47, ta6_47, ta7_47, -, -⟩ := id tw_47
            refine lv_aload_n F.x F.cd dX3_renderTank_92 rfl (lv_at hl 0 rfl) ?_
            refine s_get F hW (ci := 7) (C := RX3) (T := TX3) (N := 18) (v := .int (nI ((rtL (ar 0) i1).length))) (t0_47) rfl in_X3 8 (by decide) q2287 (fun _ h9 => h9) rfl dX3_renderTank_93 ?_
            subst hQ
            exact s_reti (v := (nI ((rtL (ar 0) i1).length))) F hW rfl (Or.inl ⟨i1, hi1, rfl, rfl, tw_47, fmk⟩) ⟨(Nat.le_of_ble_eq_true rfl), (Nat.le_of_ble_eq_true rfl)⟩ dX3_renderTank_96
          · exact absurd c_65 (by omega)
        | succ nk ih62 =>
          intro k σk  hknk twk fmk H locs ls hW hl
          obtain ⟨t0_k46, -, ta0_k46, ta1_k46, ta2_k46, ta3_k46, ta4_k46, ta5_k46, ta6_k46, ta7_k46, -, -⟩ := id twk
          have hlk := lts_le (tI (ar 0) i1) k
          have hlk2 : (dgs i1 ++ (61 :: dgs (tK (ar 0) i1)) ++ (47 :: dgs (tC (ar 0) i1)) ++ (if 0 < tI (ar 0) i1 then [58] else []) ++ lts (tI (ar 0) i1) k).length = (dgs i1 ++ (61 :: dgs (tK (ar 0) i1)) ++ (47 :: dgs (tC (ar 0) i1)) ++ (if 0 < tI (ar 0) i1 then [58] else [])).length + (lts (tI (ar 0) i1) k).length := List.length_append
          refine lv_iload_n F.x F.cd dX3_renderTank_62 rfl (lv_at hl 3 rfl) ?_
          refine lv_bipush (v := (nI 8)) F.x F.cd dX3_renderTank_63 (by decide) ?_
          refine n_icmp_ge (a := k) (b := 8) (tgt := 92) F (by omega) (by omega) dX3_renderTank_65 (by decide) (fun c_65 => ?_) (fun c_65 => ?_)
          · exact absurd c_65 (by omega)
          · refine lv_iload_n F.x F.cd dX3_renderTank_68 rfl (lv_at hl 2 rfl) ?_
            refine lv_iload_n F.x F.cd dX3_renderTank_69 rfl (lv_at hl 3 rfl) ?_
            refine a_ishr (v := ((nI (tI (ar 0) i1)) >>> ((nI k) &&& 31))) F (rfl) dX3_renderTank_70 ?_
            refine lv_iconst (v := (nI 1)) F.x F.cd dX3_renderTank_71 (by decide) ?_
            refine a_iand (v := (bI (((tI (ar 0) i1)).testBit k))) F (bitI _ (by omega) _ (by omega)) dX3_renderTank_72 ?_
            refine lv_iconst (v := (nI 1)) F.x F.cd dX3_renderTank_73 (by decide) ?_
            refine lv_icmp_ne (x := (bI (((tI (ar 0) i1)).testBit k))) (y := (nI 1)) (tgt := 86) F.x F.cd dX3_renderTank_74 (by decide) (fun c_74 => ?_) (fun c_74 => ?_)
            · have tw_48 : IsTw g σk m A (va_up (va_up iv 8 (nI ((dgs i1 ++ (61 :: dgs (tK (ar 0) i1)) ++ (47 :: dgs (tC (ar 0) i1)) ++ (if 0 < tI (ar 0) i1 then [58] else []) ++ lts (tI (ar 0) i1) (k + 1)).length))) 17 (nI 0)) wd (va_up ar 5 (apd (ar 5) 0 (dgs i1 ++ (61 :: dgs (tK (ar 0) i1)) ++ (47 :: dgs (tC (ar 0) i1)) ++ (if 0 < tI (ar 0) i1 then [58] else []) ++ lts (tI (ar 0) i1) (k + 1)))) rb := by
                rw [lts_f (Bool.eq_false_iff.mpr (fun h9 => c_74 (bI_one.mpr h9)))]
                exact ⟨t0_k46, tb0, ta0_k46, ta1_k46, ta2_k46, ta3_k46, ta4_k46, ta5_k46, ta6_k46, ta7_k46, tbb, tii⟩
              obtain ⟨t0_48, -, ta0_48, ta1_48, ta2_48, ta3_48, ta4_48, ta5_48, ta6_48, ta7_48, -, -⟩ := id tw_48
              refine lv_iinc (k := 3) (v := (nI (k + 1))) (lv' := [(3, .int (nI (k + 1))), (0, .ref m), (1, .int (nI i1)), (2, .int (nI (tI (ar 0) i1)))]) F.x F.cd dX3_renderTank_86 hl rfl (inc_nI k 1) (by decide) rfl (fun ls hl => ?_)
              refine lv_goto (tgt := 62) F.x F.cd dX3_renderTank_89 (by decide) ?_
              exact ih62 (k + 1) σk (by omega) (tw_48) (fmk) H locs ls hW (lv_sub hl [1, 2, 3, 0] rfl)
            · refine lv_aload_n F.x F.cd dX3_renderTank_77 rfl (lv_at hl 0 rfl) ?_
              refine lv_bipush (v := (nI 97)) F.x F.cd dX3_renderTank_78 (by decide) ?_
              refine lv_iload_n F.x F.cd dX3_renderTank_80 rfl (lv_at hl 3 rfl) ?_
              refine a_iadd (v := (nI (97 + k))) F (nI_add _ _) dX3_renderTank_81 ?_
              refine lv_i2c (v := (nI (97 + k))) F.x F.cd dX3_renderTank_82 (i2c_nI _ (by omega)) ?_
              refine s_callV (As := [.int (nI (97 + k))]) (rest := []) (C := RX3) (T := TX3) (N := 18) (n := 1) F hW (k_X3_signs g l σk m A _ _ _ _ ((dgs i1 ++ (61 :: dgs (tK (ar 0) i1)) ++ (47 :: dgs (tC (ar 0) i1)) ++ (if 0 < tI (ar 0) i1 then [58] else []) ++ lts (tI (ar 0) i1) k).length) (97 + k) twk rfl (by omega) (by omega)) (t0_k46) rfl q2666 q2668 qs59 q79 q2669 rfl (by decide +kernel) rfl ⟨⟨Nat.le_of_ble_eq_true rfl, Nat.le_of_ble_eq_true rfl⟩, ⟨(Nat.le_of_ble_eq_true rfl), (Nat.le_of_ble_eq_true rfl)⟩⟩ (Nat.le_of_ble_eq_true rfl) hl.1 rfl dX3_renderTank_83 cX_no (fun r50 σ50 H locs hp50 hW => ?_)
              obtain ⟨rfl, tv50, fv50⟩ := hp50
              refine W.eq (g2 := F0 m_ 86 ls ([])) rfl ?_
              obtain ⟨t0_51, -, ta0_51, ta1_51, ta2_51, ta3_51, ta4_51, ta5_51, ta6_51, ta7_51, -, -⟩ := id tv50
              have fm_51 : Fm σ σ50 m A := (fmk).trans fv50
              have tw_51 : IsTw g σ50 m A (va_up (va_up iv 8 (nI ((dgs i1 ++ (61 :: dgs (tK (ar 0) i1)) ++ (47 :: dgs (tC (ar 0) i1)) ++ (if 0 < tI (ar 0) i1 then [58] else []) ++ lts (tI (ar 0) i1) k).length + 1))) 17 (nI 0)) wd (va_up ar 5 (apd (apd (ar 5) 0 (dgs i1 ++ (61 :: dgs (tK (ar 0) i1)) ++ (47 :: dgs (tC (ar 0) i1)) ++ (if 0 < tI (ar 0) i1 then [58] else []) ++ lts (tI (ar 0) i1) k)) ((dgs i1 ++ (61 :: dgs (tK (ar 0) i1)) ++ (47 :: dgs (tC (ar 0) i1)) ++ (if 0 < tI (ar 0) i1 then [58] else []) ++ lts (tI (ar 0) i1) k).length) [97 + k])) rb := ⟨t0_51, tb0, ta0_51, ta1_51, ta2_51, ta3_51, ta4_51, ta5_51, ta6_51, ta7_51, tbb, tii⟩
              have tw_52 : IsTw g σ50 m A (va_up (va_up iv 8 (nI ((dgs i1 ++ (61 :: dgs (tK (ar 0) i1)) ++ (47 :: dgs (tC (ar 0) i1)) ++ (if 0 < tI (ar 0) i1 then [58] else []) ++ lts (tI (ar 0) i1) (k + 1)).length))) 17 (nI 0)) wd (va_up ar 5 (apd (ar 5) 0 (dgs i1 ++ (61 :: dgs (tK (ar 0) i1)) ++ (47 :: dgs (tC (ar 0) i1)) ++ (if 0 < tI (ar 0) i1 then [58] else []) ++ lts (tI (ar 0) i1) (k + 1)))) rb := by
                rw [lts_t (bI_one.mp c_74), ← List.append_assoc, List.length_append (as := dgs i1 ++ (61 :: dgs (tK (ar 0) i1)) ++ (47 :: dgs (tC (ar 0) i1)) ++ (if 0 < tI (ar 0) i1 then [58] else []) ++ lts (tI (ar 0) i1) k), ← apd_app0]
                exact ⟨t0_51, tb0, ta0_51, ta1_51, ta2_51, ta3_51, ta4_51, ta5_51, ta6_51, ta7_51, tbb, tii⟩
              obtain ⟨t0_52, -, ta0_52, ta1_52, ta2_52, ta3_52, ta4_52, ta5_52, ta6_52, ta7_52, -, -⟩ := id tw_52
              refine lv_iinc (k := 3) (v := (nI (k + 1))) (lv' := [(3, .int (nI (k + 1))), (0, .ref m), (1, .int (nI i1)), (2, .int (nI (tI (ar 0) i1)))]) F.x F.cd dX3_renderTank_86 hl rfl (inc_nI k 1) (by decide) rfl (fun ls hl => ?_)
              refine lv_goto (tgt := 62) F.x F.cd dX3_renderTank_89 (by decide) ?_
              exact ih62 (k + 1) σ50 (by omega) (tw_52) (fm_51) H locs ls hW (lv_sub hl [1, 2, 3, 0] rfl)
      exact loop62 (8) 0 _  (by omega) (by rw [lts, List.append_nil]; exact tw_43) (fm_42) H locs ls hW (lv_sub hl [2, 3, 1, 0] rfl)
  · have hz1 : inN x ((ar 0) 0) = false := hz1
    refine W.eq (g2 := F0 m_ 6 ls (.int (nI 0) :: [])) rfl ?_
    obtain ⟨t0_54, -, ta0_54, ta1_54, ta2_54, ta3_54, ta4_54, ta5_54, ta6_54, ta7_54, -, -⟩ := id tv1
    have fm_54 : Fm σ σ1 m A := (Fm.refl).trans fv1
    have tw_54 : IsTw g σ1 m A (va_up iv 17 (nI 1)) wd ar rb := ⟨t0_54, tb0, ta0_54, ta1_54, ta2_54, ta3_54, ta4_54, ta5_54, ta6_54, ta7_54, tbb, tii⟩
    refine lv_istore_n (lv' := [(2, .int (nI 0)), (0, .ref m), (1, .int x)]) F.x F.cd dX3_renderTank_6 rfl hl (by decide) rfl (fun ls hl => ?_)
    refine lv_aload_n F.x F.cd dX3_renderTank_7 rfl (lv_at hl 1 rfl) ?_
    refine s_get F hW (ci := 7) (C := RX3) (T := TX3) (N := 18) (v := .int (nI 1)) (t0_54) rfl in_X3 17 (by decide) q2296 (fun _ h9 => h9) rfl dX3_renderTank_8 ?_
    refine n_if_le (a := 1) (tgt := 16) F (by omega) dX3_renderTank_11 (by decide) (fun c_11 => absurd c_11 (by decide)) (fun c_11 => ?_)
    refine lv_iconst (v := (nI 0)) F.x F.cd dX3_renderTank_14 (by decide) ?_
    subst hQ
    exact s_reti (v := (nI 0)) F hW rfl (Or.inr ⟨hz1, rfl, tw_54, fm_54⟩) ⟨(Nat.le_of_ble_eq_true rfl), (Nat.le_of_ble_eq_true rfl)⟩ dX3_renderTank_15
set_option maxHeartbeats 4000000 in
theorem k_X3_renderPipe (g : Gh) (l : Launch) (σ : Sto) (m : Nat) (A : Nat → Nat) (iv : Nat → Int32) (wd : Nat) (ar : Nat → Nat → Nat) (rb : Nat → Bool) (x : Int32) (hw : IsTw g σ m A iv wd ar rb) (hI : Inv (ar 0)) : Ct g l yX3_renderPipe cX3_renderPipe 3 (some .int) ({ frames := 5, cells := 0, slots := 0, locals := 106 } : Room) [.ref m, .int x] σ (fun r σ' => (∃ i, i < ar 0 1 ∧ x = nI i ∧ r = some (.int (nI (rpL (ar 0) i).length)) ∧ IsTw g σ' m A (va_up (va_up iv 8 (nI (rpL (ar 0) i).length)) 17 (nI 0)) wd (va_up ar 5 (apd (ar 5) 0 (rpL (ar 0) i))) rb ∧ Fm σ σ' m A) ∨ (inN x (ar 0 1) = false ∧ r = some (.int (nI 0)) ∧ IsTw g σ' m A (va_up iv 17 (nI 1)) wd ar rb ∧ Fm σ σ' m A)) (nox) := by
  refine Ct.body (by decide) (Nat.le_of_ble_eq_true rfl) ?_
  intro p_ e_ s_ m_ args_ below_ meth_ c_ ls H locs Q F hW hl hQ
  have hl : lv_has ls 3 [(0, .ref m), (1, .int x)] := hl
  obtain ⟨t0, tb0, ta0, ta1, ta2, ta3, ta4, ta5, ta6, ta7, tbb, tii⟩ := id hw
  have hv0 := hI.1
  have hv1 := hI.2.1
  refine lv_aload_n F.x F.cd dX3_renderPipe_0 rfl (lv_at hl 0 rfl) ?_
  refine lv_iload_n F.x F.cd dX3_renderPipe_1 rfl (lv_at hl 1 rfl) ?_
  refine lv_iconst (v := (nI 0)) F.x F.cd dX3_renderPipe_2 (by decide) ?_
  refine s_callV (As := [.int x, .int (nI 0)]) (rest := []) (C := RX3) (T := TX3) (N := 18) (n := 2) F hW (k_X3_ofPipe g l σ m A _ _ _ _ x 0 hw hI (by omega)) (t0) rfl q2498 q2500 qs51 q79 q2501 rfl (by decide +kernel) rfl ⟨⟨Nat.le_of_ble_eq_true rfl, Nat.le_of_ble_eq_true rfl⟩, ⟨(Nat.le_of_ble_eq_true rfl), (Nat.le_of_ble_eq_true rfl)⟩⟩ (Nat.le_of_ble_eq_true rfl) hl.1 rfl dX3_renderPipe_3 cX_no (fun r1 σ1 H locs hp1 hW => ?_)
  rcases hp1 with ⟨i1, hi1, rfl, rfl, tv1, fv1⟩ | ⟨hz1, rfl, tv1, fv1⟩
  · have hi1 : i1 < (ar 0) 1 := hi1
    refine W.eq (g2 := F0 m_ 6 ls (.int (nI (pA (ar 0) i1)) :: [])) rfl ?_
    obtain ⟨t0_2, -, ta0_2, ta1_2, ta2_2, ta3_2, ta4_2, ta5_2, ta6_2, ta7_2, -, -⟩ := id tv1
    have fm_2 : Fm σ σ1 m A := (Fm.refl).trans fv1
    have tw_2 : IsTw g σ1 m A (va_up iv 17 (nI 0)) wd ar rb := ⟨t0_2, tb0, ta0_2, ta1_2, ta2_2, ta3_2, ta4_2, ta5_2, ta6_2, ta7_2, tbb, tii⟩
    refine lv_istore_n (lv' := [(2, .int (nI (pA (ar 0) i1))), (0, .ref m), (1, .int (nI i1))]) F.x F.cd dX3_renderPipe_6 rfl hl (by decide) rfl (fun ls hl => ?_)
    refine lv_aload_n F.x F.cd dX3_renderPipe_7 rfl (lv_at hl 1 rfl) ?_
    refine s_get F hW (ci := 7) (C := RX3) (T := TX3) (N := 18) (v := .int (nI 0)) (t0_2) rfl in_X3 17 (by decide) q2296 (fun _ h9 => h9) rfl dX3_renderPipe_8 ?_
    refine n_if_le (a := 0) (tgt := 16) F (by omega) dX3_renderPipe_11 (by decide) (fun c_11 => ?_) (fun c_11 => absurd (by decide) c_11)
    have hqq := hI.pp hi1
    obtain ⟨hqa, hqb, hqab, hqm, hqv, hqr, hqd⟩ := hqq
    have hd_2 := dgs_le (i1)
    have hd_3 := dgs_le (pA (ar 0) i1)
    have hd_4 := dgs_le (pB (ar 0) i1)
    have hd_5 := dgs_le (pV (ar 0) i1)
    have hd_6 := dgs_le (pD (ar 0) i1)
    have hd_7 := dgs_le (pR (ar 0) i1)
    refine lv_aload_n F.x F.cd dX3_renderPipe_16 rfl (lv_at hl 1 rfl) ?_
    refine lv_iconst (v := (nI 0)) F.x F.cd dX3_renderPipe_17 (by decide) ?_
    refine s_put F hW (ci := 7) (C := RX3) (T := TX3) (N := 18) (v := .int (nI 0)) (ty := .int) (t0_2) (tb0) rfl in_X3 tyX3_ok nmX3 8 (by decide) q2287 (fun _ h9 => h9) rfl (by decide +kernel) rfl rfl (Nat.le_of_ble_eq_true rfl) dX3_renderPipe_18 (fun H locs hW => ?_)
    obtain ⟨σ10, hσ10⟩ : ∃ z, z = sset σ1 m (.inr (7, [.ref (A 0), .ref (A 1), .ref (A 2), .int (iv 3), .ref (A 3), .int (iv 5), .ref (A 4), .ref (A 5), .int (nI 0), .ref (A 6), .int (iv 10), .int (iv 11), .ref wd, .ref (A 7), .int (iv 14), .int (iv 15), .int (iv 16), .int (nI 0)])) := ⟨_, rfl⟩
    have hW : Hl g σ10 H locs := by rw [hσ10]; exact hW
    have w10 : σ10 m = some (.inr (7, [.ref (A 0), .ref (A 1), .ref (A 2), .int (iv 3), .ref (A 3), .int (iv 5), .ref (A 4), .ref (A 5), .int (nI 0), .ref (A 6), .int (iv 10), .int (iv 11), .ref wd, .ref (A 7), .int (iv 14), .int (iv 15), .int (iv 16), .int (nI 0)])) := by rw [hσ10]; exact sset_eq
    have f11 : σ10 (A 0) = some (eI g 0 114 (fun x9 => nI ((ar 0) x9))) := by rw [hσ10, sset_ne (sto_ne t0_2 ta0_2 (by simp))]; exact ta0_2
    have f12 : σ10 (A 1) = some (eI g 0 114 (fun x9 => nI ((ar 1) x9))) := by rw [hσ10, sset_ne (sto_ne t0_2 ta1_2 (by simp))]; exact ta1_2
    have f13 : σ10 (A 2) = some (eI g 0 912 (fun x9 => nI ((ar 2) x9))) := by rw [hσ10, sset_ne (sto_ne t0_2 ta2_2 (by simp))]; exact ta2_2
    have f14 : σ10 (A 3) = some (eI g 0 114 (fun x9 => nI ((ar 3) x9))) := by rw [hσ10, sset_ne (sto_ne t0_2 ta3_2 (by simp))]; exact ta3_2
    have f15 : σ10 (A 4) = some (eI g 2 2048 (fun x9 => bI (rb x9))) := by rw [hσ10, sset_ne (sto_ne t0_2 ta4_2 (by simp))]; exact ta4_2
    have f16 : σ10 (A 5) = some (eI g 3 60 (fun x9 => nI ((ar 5) x9))) := by rw [hσ10, sset_ne (sto_ne t0_2 ta5_2 (by simp))]; exact ta5_2
    have f17 : σ10 (A 6) = some (eI g 3 60 (fun x9 => nI ((ar 6) x9))) := by rw [hσ10, sset_ne (sto_ne t0_2 ta6_2 (by simp))]; exact ta6_2
    have f18 : σ10 (A 7) = some (eI g 0 3 (fun x9 => nI ((ar 7) x9))) := by rw [hσ10, sset_ne (sto_ne t0_2 ta7_2 (by simp))]; exact ta7_2
    refine lv_aload_n F.x F.cd dX3_renderPipe_21 rfl (lv_at hl 1 rfl) ?_
    refine lv_iload_n F.x F.cd dX3_renderPipe_22 rfl (lv_at hl 2 rfl) ?_
    have tw19 : IsTw g σ10 m A (va_up (va_up iv 8 (nI 0)) 17 (nI 0)) wd ar rb := ⟨w10, tb0, f11, f12, f13, f14, f15, f16, f17, f18, tbb, tii⟩
    have fm19 : Fm σ σ10 m A := by rw [hσ10]; exact (fm_2).setM
    refine s_callV (As := [.int (nI i1)]) (rest := []) (C := RX3) (T := TX3) (N := 18) (n := 1) F hW (k_X3_wr_3 g l σ10 m A _ _ _ _ 0 i1 tw19 rfl (by omega) (by omega)) (w10) rfl q2662 q2664 qs58 q79 q2665 rfl (by decide +kernel) rfl ⟨⟨Nat.le_of_ble_eq_true rfl, Nat.le_of_ble_eq_true rfl⟩, ⟨(Nat.le_of_ble_eq_true rfl), (Nat.le_of_ble_eq_true rfl)⟩⟩ (Nat.le_of_ble_eq_true rfl) hl.1 rfl dX3_renderPipe_23 cX_no (fun r20 σ20 H locs hp20 hW => ?_)
    obtain ⟨rfl, tv20, fv20⟩ := hp20
    refine W.eq (g2 := F0 m_ 26 ls ([])) rfl ?_
    obtain ⟨t0_21, -, ta0_21, ta1_21, ta2_21, ta3_21, ta4_21, ta5_21, ta6_21, ta7_21, -, -⟩ := id tv20
    have fm_21 : Fm σ σ20 m A := (fm19).trans fv20
    have tw_21 : IsTw g σ20 m A (va_up (va_up iv 8 (nI (0 + (dgs i1).length))) 17 (nI 0)) wd (va_up ar 5 (apd (ar 5) 0 (dgs i1))) rb := ⟨t0_21, tb0, ta0_21, ta1_21, ta2_21, ta3_21, ta4_21, ta5_21, ta6_21, ta7_21, tbb, tii⟩
    have tw_22 : IsTw g σ20 m A (va_up (va_up iv 8 (nI ((dgs i1).length))) 17 (nI 0)) wd (va_up ar 5 (apd (ar 5) 0 (dgs i1))) rb := by
      rw [show (dgs i1).length = 0 + (dgs i1).length by omega]
      exact ⟨t0_21, tb0, ta0_21, ta1_21, ta2_21, ta3_21, ta4_21, ta5_21, ta6_21, ta7_21, tbb, tii⟩
    obtain ⟨t0_22, -, ta0_22, ta1_22, ta2_22, ta3_22, ta4_22, ta5_22, ta6_22, ta7_22, -, -⟩ := id tw_22
    refine lv_aload_n F.x F.cd dX3_renderPipe_26 rfl (lv_at hl 1 rfl) ?_
    refine lv_bipush (v := (nI 58)) F.x F.cd dX3_renderPipe_27 (by decide) ?_
    refine lv_iload_n F.x F.cd dX3_renderPipe_29 rfl (lv_at hl 0 rfl) ?_
    refine s_callV (As := [.int (nI 58), .int (nI (pA (ar 0) i1))]) (rest := []) (C := RX3) (T := TX3) (N := 18) (n := 2) F hW (k_X3_writes_2 g l σ20 m A _ _ _ _ ((dgs i1).length) 58 (pA (ar 0) i1) tw_22 rfl (by omega) (by omega) (by omega)) (t0_22) rfl q2670 q2672 qs60 q79 q2673 rfl (by decide +kernel) rfl ⟨⟨Nat.le_of_ble_eq_true rfl, Nat.le_of_ble_eq_true rfl⟩, ⟨(Nat.le_of_ble_eq_true rfl), (Nat.le_of_ble_eq_true rfl)⟩⟩ (Nat.le_of_ble_eq_true rfl) hl.1 rfl dX3_renderPipe_30 cX_no (fun r23 σ23 H locs hp23 hW => ?_)
    obtain ⟨rfl, tv23, fv23⟩ := hp23
    refine W.eq (g2 := F0 m_ 33 ls ([])) rfl ?_
    obtain ⟨t0_24, -, ta0_24, ta1_24, ta2_24, ta3_24, ta4_24, ta5_24, ta6_24, ta7_24, -, -⟩ := id tv23
    have fm_24 : Fm σ σ23 m A := (fm_21).trans fv23
    have tw_24 : IsTw g σ23 m A (va_up (va_up iv 8 (nI ((dgs i1).length + (58 :: dgs (pA (ar 0) i1)).length))) 17 (nI 0)) wd (va_up ar 5 (apd (apd (ar 5) 0 (dgs i1)) ((dgs i1).length) (58 :: dgs (pA (ar 0) i1)))) rb := ⟨t0_24, tb0, ta0_24, ta1_24, ta2_24, ta3_24, ta4_24, ta5_24, ta6_24, ta7_24, tbb, tii⟩
    have tw_25 : IsTw g σ23 m A (va_up (va_up iv 8 (nI ((dgs i1 ++ (58 :: dgs (pA (ar 0) i1))).length))) 17 (nI 0)) wd (va_up ar 5 (apd (ar 5) 0 (dgs i1 ++ (58 :: dgs (pA (ar 0) i1))))) rb := by
      rw [List.length_append (as := dgs i1), ← apd_app0]
      exact ⟨t0_24, tb0, ta0_24, ta1_24, ta2_24, ta3_24, ta4_24, ta5_24, ta6_24, ta7_24, tbb, tii⟩
    obtain ⟨t0_25, -, ta0_25, ta1_25, ta2_25, ta3_25, ta4_25, ta5_25, ta6_25, ta7_25, -, -⟩ := id tw_25
    have hb26 : (dgs i1 ++ (58 :: dgs (pA (ar 0) i1))).length ≤ 30 := by simp only [List.length_append, List.length_cons, List.length_nil]; omega
    refine lv_aload_n F.x F.cd dX3_renderPipe_33 rfl (lv_at hl 1 rfl) ?_
    refine lv_bipush (v := (nI 45)) F.x F.cd dX3_renderPipe_34 (by decide) ?_
    refine lv_aload_n F.x F.cd dX3_renderPipe_36 rfl (lv_at hl 1 rfl) ?_
    refine lv_iload_n F.x F.cd dX3_renderPipe_37 rfl (lv_at hl 2 rfl) ?_
    refine lv_iconst (v := (nI 1)) F.x F.cd dX3_renderPipe_38 (by decide) ?_
    refine s_callV (As := [.int (nI i1), .int (nI 1)]) (rest := [.int (nI 45), .ref m]) (C := RX3) (T := TX3) (N := 18) (n := 2) F hW (k_X3_pipe g l σ23 m A _ _ _ _ i1 1 tw_25 (by omega) (by omega)) (t0_25) rfl q2406 q2408 qs44 q79 q2409 rfl (by decide +kernel) rfl ⟨⟨Nat.le_of_ble_eq_true rfl, Nat.le_of_ble_eq_true rfl⟩, ⟨(Nat.le_of_ble_eq_true rfl), (Nat.le_of_ble_eq_true rfl)⟩⟩ (Nat.le_of_ble_eq_true rfl) hl.1 rfl dX3_renderPipe_39 cX_no (fun r27 σ27 H locs hp27 hW => ?_)
    obtain ⟨rfl, hs27⟩ := hp27
    rw [hs27] at hW
    refine W.eq (g2 := F0 m_ 42 ls (.int (nI (pB (ar 0) i1)) :: .int (nI 45) :: .ref m :: [])) rfl ?_
    refine s_callV (As := [.int (nI 45), .int (nI (pB (ar 0) i1))]) (rest := []) (C := RX3) (T := TX3) (N := 18) (n := 2) F hW (k_X3_writes_2 g l σ23 m A _ _ _ _ ((dgs i1 ++ (58 :: dgs (pA (ar 0) i1))).length) 45 (pB (ar 0) i1) tw_25 rfl (by omega) (by omega) (by omega)) (t0_25) rfl q2670 q2672 qs60 q79 q2673 rfl (by decide +kernel) rfl ⟨⟨Nat.le_of_ble_eq_true rfl, Nat.le_of_ble_eq_true rfl⟩, ⟨(Nat.le_of_ble_eq_true rfl), (Nat.le_of_ble_eq_true rfl)⟩⟩ (Nat.le_of_ble_eq_true rfl) hl.1 rfl dX3_renderPipe_42 cX_no (fun r28 σ28 H locs hp28 hW => ?_)
    obtain ⟨rfl, tv28, fv28⟩ := hp28
    refine W.eq (g2 := F0 m_ 45 ls ([])) rfl ?_
    obtain ⟨t0_29, -, ta0_29, ta1_29, ta2_29, ta3_29, ta4_29, ta5_29, ta6_29, ta7_29, -, -⟩ := id tv28
    have fm_29 : Fm σ σ28 m A := (fm_24).trans fv28
    have tw_29 : IsTw g σ28 m A (va_up (va_up iv 8 (nI ((dgs i1 ++ (58 :: dgs (pA (ar 0) i1))).length + (45 :: dgs (pB (ar 0) i1)).length))) 17 (nI 0)) wd (va_up ar 5 (apd (apd (ar 5) 0 (dgs i1 ++ (58 :: dgs (pA (ar 0) i1)))) ((dgs i1 ++ (58 :: dgs (pA (ar 0) i1))).length) (45 :: dgs (pB (ar 0) i1)))) rb := ⟨t0_29, tb0, ta0_29, ta1_29, ta2_29, ta3_29, ta4_29, ta5_29, ta6_29, ta7_29, tbb, tii⟩
    have tw_30 : IsTw g σ28 m A (va_up (va_up iv 8 (nI ((dgs i1 ++ (58 :: dgs (pA (ar 0) i1)) ++ (45 :: dgs (pB (ar 0) i1))).length))) 17 (nI 0)) wd (va_up ar 5 (apd (ar 5) 0 (dgs i1 ++ (58 :: dgs (pA (ar 0) i1)) ++ (45 :: dgs (pB (ar 0) i1))))) rb := by
      rw [List.length_append (as := dgs i1 ++ (58 :: dgs (pA (ar 0) i1))), ← apd_app0]
      exact ⟨t0_29, tb0, ta0_29, ta1_29, ta2_29, ta3_29, ta4_29, ta5_29, ta6_29, ta7_29, tbb, tii⟩
    obtain ⟨t0_30, -, ta0_30, ta1_30, ta2_30, ta3_30, ta4_30, ta5_30, ta6_30, ta7_30, -, -⟩ := id tw_30
    have hb31 : (dgs i1 ++ (58 :: dgs (pA (ar 0) i1)) ++ (45 :: dgs (pB (ar 0) i1))).length ≤ 30 := by simp only [List.length_append, List.length_cons, List.length_nil]; omega
    refine lv_aload_n F.x F.cd dX3_renderPipe_45 rfl (lv_at hl 1 rfl) ?_
    refine lv_bipush (v := (nI 118)) F.x F.cd dX3_renderPipe_46 (by decide) ?_
    refine lv_aload_n F.x F.cd dX3_renderPipe_48 rfl (lv_at hl 1 rfl) ?_
    refine lv_iload_n F.x F.cd dX3_renderPipe_49 rfl (lv_at hl 2 rfl) ?_
    refine lv_iconst (v := (nI 3)) F.x F.cd dX3_renderPipe_50 (by decide) ?_
    refine s_callV (As := [.int (nI i1), .int (nI 3)]) (rest := [.int (nI 118), .ref m]) (C := RX3) (T := TX3) (N := 18) (n := 2) F hW (k_X3_pipe g l σ28 m A _ _ _ _ i1 3 tw_30 (by omega) (by omega)) (t0_30) rfl q2406 q2408 qs44 q79 q2409 rfl (by decide +kernel) rfl ⟨⟨Nat.le_of_ble_eq_true rfl, Nat.le_of_ble_eq_true rfl⟩, ⟨(Nat.le_of_ble_eq_true rfl), (Nat.le_of_ble_eq_true rfl)⟩⟩ (Nat.le_of_ble_eq_true rfl) hl.1 rfl dX3_renderPipe_51 cX_no (fun r32 σ32 H locs hp32 hW => ?_)
    obtain ⟨rfl, hs32⟩ := hp32
    rw [hs32] at hW
    refine W.eq (g2 := F0 m_ 54 ls (.int (nI (pV (ar 0) i1)) :: .int (nI 118) :: .ref m :: [])) rfl ?_
    refine s_callV (As := [.int (nI 118), .int (nI (pV (ar 0) i1))]) (rest := []) (C := RX3) (T := TX3) (N := 18) (n := 2) F hW (k_X3_writes_2 g l σ28 m A _ _ _ _ ((dgs i1 ++ (58 :: dgs (pA (ar 0) i1)) ++ (45 :: dgs (pB (ar 0) i1))).length) 118 (pV (ar 0) i1) tw_30 rfl (by omega) (by omega) (by omega)) (t0_30) rfl q2670 q2672 qs60 q79 q2673 rfl (by decide +kernel) rfl ⟨⟨Nat.le_of_ble_eq_true rfl, Nat.le_of_ble_eq_true rfl⟩, ⟨(Nat.le_of_ble_eq_true rfl), (Nat.le_of_ble_eq_true rfl)⟩⟩ (Nat.le_of_ble_eq_true rfl) hl.1 rfl dX3_renderPipe_54 cX_no (fun r33 σ33 H locs hp33 hW => ?_)
    obtain ⟨rfl, tv33, fv33⟩ := hp33
    refine W.eq (g2 := F0 m_ 57 ls ([])) rfl ?_
    obtain ⟨t0_34, -, ta0_34, ta1_34, ta2_34, ta3_34, ta4_34, ta5_34, ta6_34, ta7_34, -, -⟩ := id tv33
    have fm_34 : Fm σ σ33 m A := (fm_29).trans fv33
    have tw_34 : IsTw g σ33 m A (va_up (va_up iv 8 (nI ((dgs i1 ++ (58 :: dgs (pA (ar 0) i1)) ++ (45 :: dgs (pB (ar 0) i1))).length + (118 :: dgs (pV (ar 0) i1)).length))) 17 (nI 0)) wd (va_up ar 5 (apd (apd (ar 5) 0 (dgs i1 ++ (58 :: dgs (pA (ar 0) i1)) ++ (45 :: dgs (pB (ar 0) i1)))) ((dgs i1 ++ (58 :: dgs (pA (ar 0) i1)) ++ (45 :: dgs (pB (ar 0) i1))).length) (118 :: dgs (pV (ar 0) i1)))) rb := ⟨t0_34, tb0, ta0_34, ta1_34, ta2_34, ta3_34, ta4_34, ta5_34, ta6_34, ta7_34, tbb, tii⟩
    have tw_35 : IsTw g σ33 m A (va_up (va_up iv 8 (nI ((dgs i1 ++ (58 :: dgs (pA (ar 0) i1)) ++ (45 :: dgs (pB (ar 0) i1)) ++ (118 :: dgs (pV (ar 0) i1))).length))) 17 (nI 0)) wd (va_up ar 5 (apd (ar 5) 0 (dgs i1 ++ (58 :: dgs (pA (ar 0) i1)) ++ (45 :: dgs (pB (ar 0) i1)) ++ (118 :: dgs (pV (ar 0) i1))))) rb := by
      rw [List.length_append (as := dgs i1 ++ (58 :: dgs (pA (ar 0) i1)) ++ (45 :: dgs (pB (ar 0) i1))), ← apd_app0]
      exact ⟨t0_34, tb0, ta0_34, ta1_34, ta2_34, ta3_34, ta4_34, ta5_34, ta6_34, ta7_34, tbb, tii⟩
    obtain ⟨t0_35, -, ta0_35, ta1_35, ta2_35, ta3_35, ta4_35, ta5_35, ta6_35, ta7_35, -, -⟩ := id tw_35
    have hb36 : (dgs i1 ++ (58 :: dgs (pA (ar 0) i1)) ++ (45 :: dgs (pB (ar 0) i1)) ++ (118 :: dgs (pV (ar 0) i1))).length ≤ 30 := by simp only [List.length_append, List.length_cons, List.length_nil]; omega
    refine lv_aload_n F.x F.cd dX3_renderPipe_57 rfl (lv_at hl 1 rfl) ?_
    refine lv_bipush (v := (nI 100)) F.x F.cd dX3_renderPipe_58 (by decide) ?_
    refine lv_aload_n F.x F.cd dX3_renderPipe_60 rfl (lv_at hl 1 rfl) ?_
    refine lv_iload_n F.x F.cd dX3_renderPipe_61 rfl (lv_at hl 2 rfl) ?_
    refine lv_iconst (v := (nI 5)) F.x F.cd dX3_renderPipe_62 (by decide) ?_
    refine s_callV (As := [.int (nI i1), .int (nI 5)]) (rest := [.int (nI 100), .ref m]) (C := RX3) (T := TX3) (N := 18) (n := 2) F hW (k_X3_pipe g l σ33 m A _ _ _ _ i1 5 tw_35 (by omega) (by omega)) (t0_35) rfl q2406 q2408 qs44 q79 q2409 rfl (by decide +kernel) rfl ⟨⟨Nat.le_of_ble_eq_true rfl, Nat.le_of_ble_eq_true rfl⟩, ⟨(Nat.le_of_ble_eq_true rfl), (Nat.le_of_ble_eq_true rfl)⟩⟩ (Nat.le_of_ble_eq_true rfl) hl.1 rfl dX3_renderPipe_63 cX_no (fun r37 σ37 H locs hp37 hW => ?_)
    obtain ⟨rfl, hs37⟩ := hp37
    rw [hs37] at hW
    refine W.eq (g2 := F0 m_ 66 ls (.int (nI (pD (ar 0) i1)) :: .int (nI 100) :: .ref m :: [])) rfl ?_
    refine s_callV (As := [.int (nI 100), .int (nI (pD (ar 0) i1))]) (rest := []) (C := RX3) (T := TX3) (N := 18) (n := 2) F hW (k_X3_writes_2 g l σ33 m A _ _ _ _ ((dgs i1 ++ (58 :: dgs (pA (ar 0) i1)) ++ (45 :: dgs (pB (ar 0) i1)) ++ (118 :: dgs (pV (ar 0) i1))).length) 100 (pD (ar 0) i1) tw_35 rfl (by omega) (by omega) (by omega)) (t0_35) rfl q2670 q2672 qs60 q79 q2673 rfl (by decide +kernel) rfl ⟨⟨Nat.le_of_ble_eq_true rfl, Nat.le_of_ble_eq_true rfl⟩, ⟨(Nat.le_of_ble_eq_true rfl), (Nat.le_of_ble_eq_true rfl)⟩⟩ (Nat.le_of_ble_eq_true rfl) hl.1 rfl dX3_renderPipe_66 cX_no (fun r38 σ38 H locs hp38 hW => ?_)
    obtain ⟨rfl, tv38, fv38⟩ := hp38
    refine W.eq (g2 := F0 m_ 69 ls ([])) rfl ?_
    obtain ⟨t0_39, -, ta0_39, ta1_39, ta2_39, ta3_39, ta4_39, ta5_39, ta6_39, ta7_39, -, -⟩ := id tv38
    have fm_39 : Fm σ σ38 m A := (fm_34).trans fv38
    have tw_39 : IsTw g σ38 m A (va_up (va_up iv 8 (nI ((dgs i1 ++ (58 :: dgs (pA (ar 0) i1)) ++ (45 :: dgs (pB (ar 0) i1)) ++ (118 :: dgs (pV (ar 0) i1))).length + (100 :: dgs (pD (ar 0) i1)).length))) 17 (nI 0)) wd (va_up ar 5 (apd (apd (ar 5) 0 (dgs i1 ++ (58 :: dgs (pA (ar 0) i1)) ++ (45 :: dgs (pB (ar 0) i1)) ++ (118 :: dgs (pV (ar 0) i1)))) ((dgs i1 ++ (58 :: dgs (pA (ar 0) i1)) ++ (45 :: dgs (pB (ar 0) i1)) ++ (118 :: dgs (pV (ar 0) i1))).length) (100 :: dgs (pD (ar 0) i1)))) rb := ⟨t0_39, tb0, ta0_39, ta1_39, ta2_39, ta3_39, ta4_39, ta5_39, ta6_39, ta7_39, tbb, tii⟩
    have tw_40 : IsTw g σ38 m A (va_up (va_up iv 8 (nI ((dgs i1 ++ (58 :: dgs (pA (ar 0) i1)) ++ (45 :: dgs (pB (ar 0) i1)) ++ (118 :: dgs (pV (ar 0) i1)) ++ (100 :: dgs (pD (ar 0) i1))).length))) 17 (nI 0)) wd (va_up ar 5 (apd (ar 5) 0 (dgs i1 ++ (58 :: dgs (pA (ar 0) i1)) ++ (45 :: dgs (pB (ar 0) i1)) ++ (118 :: dgs (pV (ar 0) i1)) ++ (100 :: dgs (pD (ar 0) i1))))) rb := by
      rw [List.length_append (as := dgs i1 ++ (58 :: dgs (pA (ar 0) i1)) ++ (45 :: dgs (pB (ar 0) i1)) ++ (118 :: dgs (pV (ar 0) i1))), ← apd_app0]
      exact ⟨t0_39, tb0, ta0_39, ta1_39, ta2_39, ta3_39, ta4_39, ta5_39, ta6_39, ta7_39, tbb, tii⟩
    obtain ⟨t0_40, -, ta0_40, ta1_40, ta2_40, ta3_40, ta4_40, ta5_40, ta6_40, ta7_40, -, -⟩ := id tw_40
    have hb41 : (dgs i1 ++ (58 :: dgs (pA (ar 0) i1)) ++ (45 :: dgs (pB (ar 0) i1)) ++ (118 :: dgs (pV (ar 0) i1)) ++ (100 :: dgs (pD (ar 0) i1))).length ≤ 30 := by simp only [List.length_append, List.length_cons, List.length_nil]; omega
    refine lv_aload_n F.x F.cd dX3_renderPipe_69 rfl (lv_at hl 1 rfl) ?_
    refine lv_iload_n F.x F.cd dX3_renderPipe_70 rfl (lv_at hl 2 rfl) ?_
    refine lv_iconst (v := (nI 4)) F.x F.cd dX3_renderPipe_71 (by decide) ?_
    refine s_callV (As := [.int (nI i1), .int (nI 4)]) (rest := []) (C := RX3) (T := TX3) (N := 18) (n := 2) F hW (k_X3_pipe g l σ38 m A _ _ _ _ i1 4 tw_40 (by omega) (by omega)) (t0_40) rfl q2406 q2408 qs44 q79 q2409 rfl (by decide +kernel) rfl ⟨⟨Nat.le_of_ble_eq_true rfl, Nat.le_of_ble_eq_true rfl⟩, ⟨(Nat.le_of_ble_eq_true rfl), (Nat.le_of_ble_eq_true rfl)⟩⟩ (Nat.le_of_ble_eq_true rfl) hl.1 rfl dX3_renderPipe_72 cX_no (fun r42 σ42 H locs hp42 hW => ?_)
    obtain ⟨rfl, hs42⟩ := hp42
    rw [hs42] at hW
    refine W.eq (g2 := F0 m_ 75 ls (.int (nI (pR (ar 0) i1)) :: [])) rfl ?_
    refine n_if_le (a := pR (ar 0) i1) (tgt := 90) F (by omega) dX3_renderPipe_75 (by decide) (fun c_75 => ?_) (fun c_75 => ?_)
    · have tw_43 : IsTw g σ38 m A (va_up (va_up iv 8 (nI ((dgs i1 ++ (58 :: dgs (pA (ar 0) i1)) ++ (45 :: dgs (pB (ar 0) i1)) ++ (118 :: dgs (pV (ar 0) i1)) ++ (100 :: dgs (pD (ar 0) i1)) ++ (if 0 < pR (ar 0) i1 then 108 :: dgs (pR (ar 0) i1) else [])).length))) 17 (nI 0)) wd (va_up ar 5 (apd (ar 5) 0 (dgs i1 ++ (58 :: dgs (pA (ar 0) i1)) ++ (45 :: dgs (pB (ar 0) i1)) ++ (118 :: dgs (pV (ar 0) i1)) ++ (100 :: dgs (pD (ar 0) i1)) ++ (if 0 < pR (ar 0) i1 then 108 :: dgs (pR (ar 0) i1) else [])))) rb := by
        rw [if_neg (by omega), List.append_nil]
        exact ⟨t0_40, tb0, ta0_40, ta1_40, ta2_40, ta3_40, ta4_40, ta5_40, ta6_40, ta7_40, tbb, tii⟩
      obtain ⟨t0_43, -, ta0_43, ta1_43, ta2_43, ta3_43, ta4_43, ta5_43, ta6_43, ta7_43, -, -⟩ := id tw_43
      have hz44 : (if 0 < pR (ar 0) i1 then 108 :: dgs (pR (ar 0) i1) else []).length ≤ 4 := by split <;> simp <;> omega
      have hb45 : (dgs i1 ++ (58 :: dgs (pA (ar 0) i1)) ++ (45 :: dgs (pB (ar 0) i1)) ++ (118 :: dgs (pV (ar 0) i1)) ++ (100 :: dgs (pD (ar 0) i1)) ++ (if 0 < pR (ar 0) i1 then 108 :: dgs (pR (ar 0) i1) else [])).length ≤ 30 := by simp only [List.length_append, List.length_cons, List.length_nil]; omega
      refine lv_aload_n F.x F.cd dX3_renderPipe_90 rfl (lv_at hl 1 rfl) ?_
      have h9i := hi1
      refine lv_iload_n F.x F.cd dX3_renderPipe_91 rfl (lv_at hl 2 rfl) ?_
      refine s_callV (As := [.int (nI i1)]) (rest := []) (C := RX3) (T := TX3) (N := 18) (n := 1) F hW (k_X3_bridges g l σ38 m A _ _ _ _ i1 tw_43 hI h9i) (t0_43) rfl q2567 q2569 qs55 q79 q2570 rfl (by decide +kernel) rfl ⟨⟨Nat.le_of_ble_eq_true rfl, Nat.le_of_ble_eq_true rfl⟩, ⟨(Nat.le_of_ble_eq_true rfl), (Nat.le_of_ble_eq_true rfl)⟩⟩ (Nat.le_of_ble_eq_true rfl) hl.1 rfl dX3_renderPipe_92 cX_no (fun r46 σ46 H locs hp46 hW => ?_)
      obtain ⟨rfl, hs46⟩ := hp46
      rw [hs46] at hW
      refine W.eq (g2 := F0 m_ 95 ls (.int (bI (brB (ar 0) i1)) :: [])) rfl ?_
      refine b_if_eq (b := (brB (ar 0) i1)) (tgt := 104) F dX3_renderPipe_95 (by decide) (fun c_95 => ?_) (fun c_95 => ?_)
      · have tw_47 : IsTw g σ38 m A (va_up (va_up iv 8 (nI ((rpL (ar 0) i1).length))) 17 (nI 0)) wd (va_up ar 5 (apd (ar 5) 0 (rpL (ar 0) i1))) rb := by
          rw [rpL_f c_95]
          exact ⟨t0_43, tb0, ta0_43, ta1_43, ta2_43, ta3_43, ta4_43, ta5_43, ta6_43, ta7_43, tbb, tii⟩
        obtain ⟨t0_47, -, ta0_47, ta1_47, ta2_47, ta3_47, ta4_47, ta5_47, ta6_47, ta7_47, -, -⟩ := id tw_47
        refine lv_aload_n F.x F.cd dX3_renderPipe_104 rfl (lv_at hl 1 rfl) ?_
        refine s_get F hW (ci := 7) (C := RX3) (T := TX3) (N := 18) (v := .int (nI ((rpL (ar 0) i1).length))) (t0_47) rfl in_X3 8 (by decide) q2287 (fun _ h9 => h9) rfl dX3_renderPipe_105 ?_
        subst hQ
        exact s_reti (v := (nI ((rpL (ar 0) i1).length))) F hW rfl (Or.inl ⟨i1, hi1, rfl, rfl, tw_47, fm_39⟩) ⟨(Nat.le_of_ble_eq_true rfl), (Nat.le_of_ble_eq_true rfl)⟩ dX3_renderPipe_108
      · refine lv_aload_n F.x F.cd dX3_renderPipe_98 rfl (lv_at hl 1 rfl) ?_
        refine lv_bipush (v := (nI 42)) F.x F.cd dX3_renderPipe_99 (by decide) ?_
        refine s_callV (As := [.int (nI 42)]) (rest := []) (C := RX3) (T := TX3) (N := 18) (n := 1) F hW (k_X3_signs g l σ38 m A _ _ _ _ ((dgs i1 ++ (58 :: dgs (pA (ar 0) i1)) ++ (45 :: dgs (pB (ar 0) i1)) ++ (118 :: dgs (pV (ar 0) i1)) ++ (100 :: dgs (pD (ar 0) i1)) ++ (if 0 < pR (ar 0) i1 then 108 :: dgs (pR (ar 0) i1) else [])).length) 42 tw_43 rfl (by omega) (by omega)) (t0_43) rfl q2666 q2668 qs59 q79 q2669 rfl (by decide +kernel) rfl ⟨⟨Nat.le_of_ble_eq_true rfl, Nat.le_of_ble_eq_true rfl⟩, ⟨(Nat.le_of_ble_eq_true rfl), (Nat.le_of_ble_eq_true rfl)⟩⟩ (Nat.le_of_ble_eq_true rfl) hl.1 rfl dX3_renderPipe_101 cX_no (fun r48 σ48 H locs hp48 hW => ?_)
        obtain ⟨rfl, tv48, fv48⟩ := hp48
        refine W.eq (g2 := F0 m_ 104 ls ([])) rfl ?_
        obtain ⟨t0_49, -, ta0_49, ta1_49, ta2_49, ta3_49, ta4_49, ta5_49, ta6_49, ta7_49, -, -⟩ := id tv48
        have fm_49 : Fm σ σ48 m A := (fm_39).trans fv48
        have tw_49 : IsTw g σ48 m A (va_up (va_up iv 8 (nI ((dgs i1 ++ (58 :: dgs (pA (ar 0) i1)) ++ (45 :: dgs (pB (ar 0) i1)) ++ (118 :: dgs (pV (ar 0) i1)) ++ (100 :: dgs (pD (ar 0) i1)) ++ (if 0 < pR (ar 0) i1 then 108 :: dgs (pR (ar 0) i1) else [])).length + 1))) 17 (nI 0)) wd (va_up ar 5 (apd (apd (ar 5) 0 (dgs i1 ++ (58 :: dgs (pA (ar 0) i1)) ++ (45 :: dgs (pB (ar 0) i1)) ++ (118 :: dgs (pV (ar 0) i1)) ++ (100 :: dgs (pD (ar 0) i1)) ++ (if 0 < pR (ar 0) i1 then 108 :: dgs (pR (ar 0) i1) else []))) ((dgs i1 ++ (58 :: dgs (pA (ar 0) i1)) ++ (45 :: dgs (pB (ar 0) i1)) ++ (118 :: dgs (pV (ar 0) i1)) ++ (100 :: dgs (pD (ar 0) i1)) ++ (if 0 < pR (ar 0) i1 then 108 :: dgs (pR (ar 0) i1) else [])).length) [42])) rb := ⟨t0_49, tb0, ta0_49, ta1_49, ta2_49, ta3_49, ta4_49, ta5_49, ta6_49, ta7_49, tbb, tii⟩
        have tw_50 : IsTw g σ48 m A (va_up (va_up iv 8 (nI ((rpL (ar 0) i1).length))) 17 (nI 0)) wd (va_up ar 5 (apd (ar 5) 0 (rpL (ar 0) i1))) rb := by
          rw [rpL_t c_95, List.length_append (as := dgs i1 ++ (58 :: dgs (pA (ar 0) i1)) ++ (45 :: dgs (pB (ar 0) i1)) ++ (118 :: dgs (pV (ar 0) i1)) ++ (100 :: dgs (pD (ar 0) i1)) ++ (if 0 < pR (ar 0) i1 then 108 :: dgs (pR (ar 0) i1) else [])), ← apd_app0]
          exact ⟨t0_49, tb0, ta0_49, ta1_49, ta2_49, ta3_49, ta4_49, ta5_49, ta6_49, ta7_49, tbb, tii⟩
        obtain ⟨t0_50, -, ta0_50, ta1_50, ta2_50, ta3_50, ta4_50, ta5_50, ta6_50, ta7_50, -, -⟩ := id tw_50
        refine lv_aload_n F.x F.cd dX3_renderPipe_104 rfl (lv_at hl 1 rfl) ?_
        refine s_get F hW (ci := 7) (C := RX3) (T := TX3) (N := 18) (v := .int (nI ((rpL (ar 0) i1).length))) (t0_50) rfl in_X3 8 (by decide) q2287 (fun _ h9 => h9) rfl dX3_renderPipe_105 ?_
        subst hQ
        exact s_reti (v := (nI ((rpL (ar 0) i1).length))) F hW rfl (Or.inl ⟨i1, hi1, rfl, rfl, tw_50, fm_49⟩) ⟨(Nat.le_of_ble_eq_true rfl), (Nat.le_of_ble_eq_true rfl)⟩ dX3_renderPipe_108
    · refine lv_aload_n F.x F.cd dX3_renderPipe_78 rfl (lv_at hl 1 rfl) ?_
      refine lv_bipush (v := (nI 108)) F.x F.cd dX3_renderPipe_79 (by decide) ?_
      refine lv_aload_n F.x F.cd dX3_renderPipe_81 rfl (lv_at hl 1 rfl) ?_
      refine lv_iload_n F.x F.cd dX3_renderPipe_82 rfl (lv_at hl 2 rfl) ?_
      refine lv_iconst (v := (nI 4)) F.x F.cd dX3_renderPipe_83 (by decide) ?_
      refine s_callV (As := [.int (nI i1), .int (nI 4)]) (rest := [.int (nI 108), .ref m]) (C := RX3) (T := TX3) (N := 18) (n := 2) F hW (k_X3_pipe g l σ38 m A _ _ _ _ i1 4 tw_40 (by omega) (by omega)) (t0_40) rfl q2406 q2408 qs44 q79 q2409 rfl (by decide +kernel) rfl ⟨⟨Nat.le_of_ble_eq_true rfl, Nat.le_of_ble_eq_true rfl⟩, ⟨(Nat.le_of_ble_eq_true rfl), (Nat.le_of_ble_eq_true rfl)⟩⟩ (Nat.le_of_ble_eq_true rfl) hl.1 rfl dX3_renderPipe_84 cX_no (fun r51 σ51 H locs hp51 hW => ?_)
      obtain ⟨rfl, hs51⟩ := hp51
      rw [hs51] at hW
      refine W.eq (g2 := F0 m_ 87 ls (.int (nI (pR (ar 0) i1)) :: .int (nI 108) :: .ref m :: [])) rfl ?_
      refine s_callV (As := [.int (nI 108), .int (nI (pR (ar 0) i1))]) (rest := []) (C := RX3) (T := TX3) (N := 18) (n := 2) F hW (k_X3_writes_2 g l σ38 m A _ _ _ _ ((dgs i1 ++ (58 :: dgs (pA (ar 0) i1)) ++ (45 :: dgs (pB (ar 0) i1)) ++ (118 :: dgs (pV (ar 0) i1)) ++ (100 :: dgs (pD (ar 0) i1))).length) 108 (pR (ar 0) i1) tw_40 rfl (by omega) (by omega) (by omega)) (t0_40) rfl q2670 q2672 qs60 q79 q2673 rfl (by decide +kernel) rfl ⟨⟨Nat.le_of_ble_eq_true rfl, Nat.le_of_ble_eq_true rfl⟩, ⟨(Nat.le_of_ble_eq_true rfl), (Nat.le_of_ble_eq_true rfl)⟩⟩ (Nat.le_of_ble_eq_true rfl) hl.1 rfl dX3_renderPipe_87 cX_no (fun r52 σ52 H locs hp52 hW => ?_)
      obtain ⟨rfl, tv52, fv52⟩ := hp52
      refine W.eq (g2 := F0 m_ 90 ls ([])) rfl ?_
      obtain ⟨t0_53, -, ta0_53, ta1_53, ta2_53, ta3_53, ta4_53, ta5_53, ta6_53, ta7_53, -, -⟩ := id tv52
      have fm_53 : Fm σ σ52 m A := (fm_39).trans fv52
      have tw_53 : IsTw g σ52 m A (va_up (va_up iv 8 (nI ((dgs i1 ++ (58 :: dgs (pA (ar 0) i1)) ++ (45 :: dgs (pB (ar 0) i1)) ++ (118 :: dgs (pV (ar 0) i1)) ++ (100 :: dgs (pD (ar 0) i1))).length + (108 :: dgs (pR (ar 0) i1)).length))) 17 (nI 0)) wd (va_up ar 5 (apd (apd (ar 5) 0 (dgs i1 ++ (58 :: dgs (pA (ar 0) i1)) ++ (45 :: dgs (pB (ar 0) i1)) ++ (118 :: dgs (pV (ar 0) i1)) ++ (100 :: dgs (pD (ar 0) i1)))) ((dgs i1 ++ (58 :: dgs (pA (ar 0) i1)) ++ (45 :: dgs (pB (ar 0) i1)) ++ (118 :: dgs (pV (ar 0) i1)) ++ (100 :: dgs (pD (ar 0) i1))).length) (108 :: dgs (pR (ar 0) i1)))) rb := ⟨t0_53, tb0, ta0_53, ta1_53, ta2_53, ta3_53, ta4_53, ta5_53, ta6_53, ta7_53, tbb, tii⟩
      have tw_54 : IsTw g σ52 m A (va_up (va_up iv 8 (nI ((dgs i1 ++ (58 :: dgs (pA (ar 0) i1)) ++ (45 :: dgs (pB (ar 0) i1)) ++ (118 :: dgs (pV (ar 0) i1)) ++ (100 :: dgs (pD (ar 0) i1)) ++ (if 0 < pR (ar 0) i1 then 108 :: dgs (pR (ar 0) i1) else [])).length))) 17 (nI 0)) wd (va_up ar 5 (apd (ar 5) 0 (dgs i1 ++ (58 :: dgs (pA (ar 0) i1)) ++ (45 :: dgs (pB (ar 0) i1)) ++ (118 :: dgs (pV (ar 0) i1)) ++ (100 :: dgs (pD (ar 0) i1)) ++ (if 0 < pR (ar 0) i1 then 108 :: dgs (pR (ar 0) i1) else [])))) rb := by
        rw [if_pos (by omega), List.length_append (as := dgs i1 ++ (58 :: dgs (pA (ar 0) i1)) ++ (45 :: dgs (pB (ar 0) i1)) ++ (118 :: dgs (pV (ar 0) i1)) ++ (100 :: dgs (pD (ar 0) i1))), ← apd_app0]
        exact ⟨t0_53, tb0, ta0_53, ta1_53, ta2_53, ta3_53, ta4_53, ta5_53, ta6_53, ta7_53, tbb, tii⟩
      obtain ⟨t0_54, -, ta0_54, ta1_54, ta2_54, ta3_54, ta4_54, ta5_54, ta6_54, ta7_54, -, -⟩ := id tw_54
      have hz55 : (if 0 < pR (ar 0) i1 then 108 :: dgs (pR (ar 0) i1) else []).length ≤ 4 := by split <;> simp <;> omega
      have hb56 : (dgs i1 ++ (58 :: dgs (pA (ar 0) i1)) ++ (45 :: dgs (pB (ar 0) i1)) ++ (118 :: dgs (pV (ar 0) i1)) ++ (100 :: dgs (pD (ar 0) i1)) ++ (if 0 < pR (ar 0) i1 then 108 :: dgs (pR (ar 0) i1) else [])).length ≤ 30 := by simp only [List.length_append, List.length_cons, List.length_nil]; omega
      refine lv_aload_n F.x F.cd dX3_renderPipe_90 rfl (lv_at hl 1 rfl) ?_
      have h9i := hi1
      refine lv_iload_n F.x F.cd dX3_renderPipe_91 rfl (lv_at hl 2 rfl) ?_
      refine s_callV (As := [.int (nI i1)]) (rest := []) (C := RX3) (T := TX3) (N := 18) (n := 1) F hW (k_X3_bridges g l σ52 m A _ _ _ _ i1 tw_54 hI h9i) (t0_54) rfl q2567 q2569 qs55 q79 q2570 rfl (by decide +kernel) rfl ⟨⟨Nat.le_of_ble_eq_true rfl, Nat.le_of_ble_eq_true rfl⟩, ⟨(Nat.le_of_ble_eq_true rfl), (Nat.le_of_ble_eq_true rfl)⟩⟩ (Nat.le_of_ble_eq_true rfl) hl.1 rfl dX3_renderPipe_92 cX_no (fun r57 σ57 H locs hp57 hW => ?_)
      obtain ⟨rfl, hs57⟩ := hp57
      rw [hs57] at hW
      refine W.eq (g2 := F0 m_ 95 ls (.int (bI (brB (ar 0) i1)) :: [])) rfl ?_
      refine b_if_eq (b := (brB (ar 0) i1)) (tgt := 104) F dX3_renderPipe_95 (by decide) (fun c_95 => ?_) (fun c_95 => ?_)
      · have tw_58 : IsTw g σ52 m A (va_up (va_up iv 8 (nI ((rpL (ar 0) i1).length))) 17 (nI 0)) wd (va_up ar 5 (apd (ar 5) 0 (rpL (ar 0) i1))) rb := by
          rw [rpL_f c_95]
          exact ⟨t0_54, tb0, ta0_54, ta1_54, ta2_54, ta3_54, ta4_54, ta5_54, ta6_54, ta7_54, tbb, tii⟩
        obtain ⟨t0_58, -, ta0_58, ta1_58, ta2_58, ta3_58, ta4_58, ta5_58, ta6_58, ta7_58, -, -⟩ := id tw_58
        refine lv_aload_n F.x F.cd dX3_renderPipe_104 rfl (lv_at hl 1 rfl) ?_
        refine s_get F hW (ci := 7) (C := RX3) (T := TX3) (N := 18) (v := .int (nI ((rpL (ar 0) i1).length))) (t0_58) rfl in_X3 8 (by decide) q2287 (fun _ h9 => h9) rfl dX3_renderPipe_105 ?_
        subst hQ
        exact s_reti (v := (nI ((rpL (ar 0) i1).length))) F hW rfl (Or.inl ⟨i1, hi1, rfl, rfl, tw_58, fm_53⟩) ⟨(Nat.le_of_ble_eq_true rfl), (Nat.le_of_ble_eq_true rfl)⟩ dX3_renderPipe_108
      · refine lv_aload_n F.x F.cd dX3_renderPipe_98 rfl (lv_at hl 1 rfl) ?_
        refine lv_bipush (v := (nI 42)) F.x F.cd dX3_renderPipe_99 (by decide) ?_
        refine s_callV (As := [.int (nI 42)]) (rest := []) (C := RX3) (T := TX3) (N := 18) (n := 1) F hW (k_X3_signs g l σ52 m A _ _ _ _ ((dgs i1 ++ (58 :: dgs (pA (ar 0) i1)) ++ (45 :: dgs (pB (ar 0) i1)) ++ (118 :: dgs (pV (ar 0) i1)) ++ (100 :: dgs (pD (ar 0) i1)) ++ (if 0 < pR (ar 0) i1 then 108 :: dgs (pR (ar 0) i1) else [])).length) 42 tw_54 rfl (by omega) (by omega)) (t0_54) rfl q2666 q2668 qs59 q79 q2669 rfl (by decide +kernel) rfl ⟨⟨Nat.le_of_ble_eq_true rfl, Nat.le_of_ble_eq_true rfl⟩, ⟨(Nat.le_of_ble_eq_true rfl), (Nat.le_of_ble_eq_true rfl)⟩⟩ (Nat.le_of_ble_eq_true rfl) hl.1 rfl dX3_renderPipe_101 cX_no (fun r59 σ59 H locs hp59 hW => ?_)
        obtain ⟨rfl, tv59, fv59⟩ := hp59
        refine W.eq (g2 := F0 m_ 104 ls ([])) rfl ?_
        obtain ⟨t0_60, -, ta0_60, ta1_60, ta2_60, ta3_60, ta4_60, ta5_60, ta6_60, ta7_60, -, -⟩ := id tv59
        have fm_60 : Fm σ σ59 m A := (fm_53).trans fv59
        have tw_60 : IsTw g σ59 m A (va_up (va_up iv 8 (nI ((dgs i1 ++ (58 :: dgs (pA (ar 0) i1)) ++ (45 :: dgs (pB (ar 0) i1)) ++ (118 :: dgs (pV (ar 0) i1)) ++ (100 :: dgs (pD (ar 0) i1)) ++ (if 0 < pR (ar 0) i1 then 108 :: dgs (pR (ar 0) i1) else [])).length + 1))) 17 (nI 0)) wd (va_up ar 5 (apd (apd (ar 5) 0 (dgs i1 ++ (58 :: dgs (pA (ar 0) i1)) ++ (45 :: dgs (pB (ar 0) i1)) ++ (118 :: dgs (pV (ar 0) i1)) ++ (100 :: dgs (pD (ar 0) i1)) ++ (if 0 < pR (ar 0) i1 then 108 :: dgs (pR (ar 0) i1) else []))) ((dgs i1 ++ (58 :: dgs (pA (ar 0) i1)) ++ (45 :: dgs (pB (ar 0) i1)) ++ (118 :: dgs (pV (ar 0) i1)) ++ (100 :: dgs (pD (ar 0) i1)) ++ (if 0 < pR (ar 0) i1 then 108 :: dgs (pR (ar 0) i1) else [])).length) [42])) rb := ⟨t0_60, tb0, ta0_60, ta1_60, ta2_60, ta3_60, ta4_60, ta5_60, ta6_60, ta7_60, tbb, tii⟩
        have tw_61 : IsTw g σ59 m A (va_up (va_up iv 8 (nI ((rpL (ar 0) i1).length))) 17 (nI 0)) wd (va_up ar 5 (apd (ar 5) 0 (rpL (ar 0) i1))) rb := by
          rw [rpL_t c_95, List.length_append (as := dgs i1 ++ (58 :: dgs (pA (ar 0) i1)) ++ (45 :: dgs (pB (ar 0) i1)) ++ (118 :: dgs (pV (ar 0) i1)) ++ (100 :: dgs (pD (ar 0) i1)) ++ (if 0 < pR (ar 0) i1 then 108 :: dgs (pR (ar 0) i1) else [])), ← apd_app0]
          exact ⟨t0_60, tb0, ta0_60, ta1_60, ta2_60, ta3_60, ta4_60, ta5_60, ta6_60, ta7_60, tbb, tii⟩
        obtain ⟨t0_61, -, ta0_61, ta1_61, ta2_61, ta3_61, ta4_61, ta5_61, ta6_61, ta7_61, -, -⟩ := id tw_61
        refine lv_aload_n F.x F.cd dX3_renderPipe_104 rfl (lv_at hl 1 rfl) ?_
        refine s_get F hW (ci := 7) (C := RX3) (T := TX3) (N := 18) (v := .int (nI ((rpL (ar 0) i1).length))) (t0_61) rfl in_X3 8 (by decide) q2287 (fun _ h9 => h9) rfl dX3_renderPipe_105 ?_
        subst hQ
        exact s_reti (v := (nI ((rpL (ar 0) i1).length))) F hW rfl (Or.inl ⟨i1, hi1, rfl, rfl, tw_61, fm_60⟩) ⟨(Nat.le_of_ble_eq_true rfl), (Nat.le_of_ble_eq_true rfl)⟩ dX3_renderPipe_108
  · have hz1 : inN x ((ar 0) 1) = false := hz1
    refine W.eq (g2 := F0 m_ 6 ls (.int (nI 0) :: [])) rfl ?_
    obtain ⟨t0_62, -, ta0_62, ta1_62, ta2_62, ta3_62, ta4_62, ta5_62, ta6_62, ta7_62, -, -⟩ := id tv1
    have fm_62 : Fm σ σ1 m A := (Fm.refl).trans fv1
    have tw_62 : IsTw g σ1 m A (va_up iv 17 (nI 1)) wd ar rb := ⟨t0_62, tb0, ta0_62, ta1_62, ta2_62, ta3_62, ta4_62, ta5_62, ta6_62, ta7_62, tbb, tii⟩
    refine lv_istore_n (lv' := [(2, .int (nI 0)), (0, .ref m), (1, .int x)]) F.x F.cd dX3_renderPipe_6 rfl hl (by decide) rfl (fun ls hl => ?_)
    refine lv_aload_n F.x F.cd dX3_renderPipe_7 rfl (lv_at hl 1 rfl) ?_
    refine s_get F hW (ci := 7) (C := RX3) (T := TX3) (N := 18) (v := .int (nI 1)) (t0_62) rfl in_X3 17 (by decide) q2296 (fun _ h9 => h9) rfl dX3_renderPipe_8 ?_
    refine n_if_le (a := 1) (tgt := 16) F (by omega) dX3_renderPipe_11 (by decide) (fun c_11 => absurd c_11 (by decide)) (fun c_11 => ?_)
    refine lv_iconst (v := (nI 0)) F.x F.cd dX3_renderPipe_14 (by decide) ?_
    subst hQ
    exact s_reti (v := (nI 0)) F hW rfl (Or.inr ⟨hz1, rfl, tw_62, fm_62⟩) ⟨(Nat.le_of_ble_eq_true rfl), (Nat.le_of_ble_eq_true rfl)⟩ dX3_renderPipe_15
