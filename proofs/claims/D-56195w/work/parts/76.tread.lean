/-! ===== the twin: reading ===== -/
set_option maxRecDepth 100000
theorem btwN {a lo hi : Nat} (ha : a < 2 ^ 30) (h1 : lo < 2 ^ 30) (h2 : hi < 2 ^ 30) : btw (nI a) (nI lo) (nI hi) = decide (lo ≤ a ∧ a ≤ hi) := by
  unfold btw
  congr 1
  rw [eq_iff_iff, nI_leI (by omega) (by omega), nI_leI (by omega) (by omega)]
/-- a letter stands at p -/
def tk (T : Nat → Nat) (n p c : Nat) : Bool := decide (p < n ∧ T p = c)
def tkE (T : Nat → Nat) (n p c : Nat) : Nat := if tk T n p c = true then p + 1 else p
theorem tk_t {T : Nat → Nat} {n p c : Nat} (h1 : p < n) (h2 : T p = c) : tk T n p c = true := decide_eq_true ⟨h1, h2⟩
theorem tk_f1 {T : Nat → Nat} {n p c : Nat} (h1 : p = n) : tk T n p c = false := decide_eq_false (fun h => by omega)
theorem tk_f2 {T : Nat → Nat} {n p c : Nat} (h1 : ¬ T p = c) : tk T n p c = false := decide_eq_false (fun h => h1 h.2)
theorem tk_lt {T : Nat → Nat} {n p c : Nat} (h : tk T n p c = true) : p < n := (of_decide_eq_true h).1
theorem tkE_f {T : Nat → Nat} {n p c : Nat} (h : tk T n p c = false) : tkE T n p c = p := if_neg (by rw [h]; decide)
/-- digits from p on, at most m of them: how many, what they say -/
def dgC (T : Nat → Nat) (n p : Nat) : Nat → Nat
  | 0 => 0
  | m + 1 => if p < n ∧ 48 ≤ T p ∧ T p ≤ 57 then dgC T n (p + 1) m + 1 else 0
def dgV (T : Nat → Nat) (n p : Nat) : Nat → Nat → Nat
  | 0, acc => acc
  | m + 1, acc => if p < n ∧ 48 ≤ T p ∧ T p ≤ 57 then dgV T n (p + 1) m (10 * acc + (T p - 48)) else acc
theorem dgC_t {T : Nat → Nat} {n p m : Nat} (h : p < n ∧ 48 ≤ T p ∧ T p ≤ 57) : dgC T n p (m + 1) = dgC T n (p + 1) m + 1 := if_pos h
theorem dgC_f {T : Nat → Nat} {n p m : Nat} (h : ¬ (p < n ∧ 48 ≤ T p ∧ T p ≤ 57)) : dgC T n p (m + 1) = 0 := if_neg h
theorem dgV_t {T : Nat → Nat} {n p m acc : Nat} (h : p < n ∧ 48 ≤ T p ∧ T p ≤ 57) : dgV T n p (m + 1) acc = dgV T n (p + 1) m (10 * acc + (T p - 48)) := if_pos h
theorem dgV_f {T : Nat → Nat} {n p m acc : Nat} (h : ¬ (p < n ∧ 48 ≤ T p ∧ T p ≤ 57)) : dgV T n p (m + 1) acc = acc := if_neg h
theorem dgC_le {T : Nat → Nat} {n : Nat} : ∀ m p, dgC T n p m ≤ m
  | 0, _ => Nat.le_refl _
  | m + 1, p => by
    have := dgC_le (T := T) (n := n) m (p + 1)
    rw [dgC]
    split <;> omega
theorem dgC_n {T : Nat → Nat} {n : Nat} : ∀ m p, p ≤ n → p + dgC T n p m ≤ n
  | 0, p, h => h
  | m + 1, p, h => by
    rw [dgC]
    split
    · rename_i h1
      have := dgC_n (T := T) (n := n) m (p + 1) (by omega)
      omega
    · exact h
/-- letters in ascending order from p on: where they end, their set -/
def seE (T : Nat → Nat) (n : Nat) : Nat → Nat → Nat → Nat
  | 0, p, _ => p
  | f + 1, p, le => if p < n ∧ le ≤ T p ∧ T p ≤ 104 then seE T n f (p + 1) (T p + 1) else p
def seV (T : Nat → Nat) (n : Nat) : Nat → Nat → Nat → Nat → Nat
  | 0, _, _, acc => acc
  | f + 1, p, le, acc => if p < n ∧ le ≤ T p ∧ T p ≤ 104 then seV T n f (p + 1) (T p + 1) (acc ||| 2 ^ (T p - 97)) else acc
theorem seE_t {T : Nat → Nat} {n f p le : Nat} (h : p < n ∧ le ≤ T p ∧ T p ≤ 104) : seE T n (f + 1) p le = seE T n f (p + 1) (T p + 1) := if_pos h
theorem seE_f {T : Nat → Nat} {n f p le : Nat} (h : ¬ (p < n ∧ le ≤ T p ∧ T p ≤ 104)) : seE T n (f + 1) p le = p := if_neg h
theorem seV_t {T : Nat → Nat} {n f p le acc : Nat} (h : p < n ∧ le ≤ T p ∧ T p ≤ 104) : seV T n (f + 1) p le acc = seV T n f (p + 1) (T p + 1) (acc ||| 2 ^ (T p - 97)) := if_pos h
theorem seV_f {T : Nat → Nat} {n f p le acc : Nat} (h : ¬ (p < n ∧ le ≤ T p ∧ T p ≤ 104)) : seV T n (f + 1) p le acc = acc := if_neg h
set_option maxHeartbeats 4000000 in
theorem k_X3_takes (g : Gh) (l : Launch) (σ : Sto) (m : Nat) (A : Nat → Nat) (iv : Nat → Int32) (wd : Nat) (ar : Nat → Nat → Nat) (rb : Nat → Bool) (n p : Nat) (c : Nat) (hw : IsTw g σ m A iv wd ar rb) (h10 : iv 10 = nI n) (h11 : iv 11 = nI p) (hpn : p ≤ n) (hn : n ≤ 60) (hT : ∀ j, j < n → ar 6 j < 128) (hc : c < 65536) : Ct g l yX3_takes cX3_takes 2 (some .boolean) ({ frames := 0, cells := 0, slots := 0, locals := 0 } : Room) [.ref m, .int (nI c)] σ (fun r σ' => r = some (.int (bI (tk (ar 6) n p c))) ∧ IsTw g σ' m A (va_up (va_up iv 10 (nI n)) 11 (nI (tkE (ar 6) n p c))) wd ar rb ∧ Fm σ σ' m A) (nox) := by
  refine Ct.body (by decide) (Nat.le_of_ble_eq_true rfl) ?_
  intro p_ e_ s_ m_ args_ below_ meth_ c_ ls H locs Q F hW hl hQ
  have hl : lv_has ls 2 [(0, .ref m), (1, .int (nI c))] := hl
  obtain ⟨t0, tb0, ta0, ta1, ta2, ta3, ta4, ta5, ta6, ta7, tbb, tii⟩ := id hw
  have tw_1 : IsTw g σ m A (va_up (va_up iv 10 (nI n)) 11 (nI p)) wd ar rb := by
    rw [← h10, ← h11]
    exact ⟨t0, tb0, ta0, ta1, ta2, ta3, ta4, ta5, ta6, ta7, tbb, tii⟩
  obtain ⟨t0_1, -, ta0_1, ta1_1, ta2_1, ta3_1, ta4_1, ta5_1, ta6_1, ta7_1, -, -⟩ := id tw_1
  refine lv_aload_n F.x F.cd dX3_takes_0 rfl (lv_at hl 0 rfl) ?_
  refine s_get F hW (ci := 7) (C := RX3) (T := TX3) (N := 18) (v := .int (nI p)) (t0_1) rfl in_X3 11 (by decide) q2290 (fun _ h9 => h9) rfl dX3_takes_1 ?_
  refine lv_aload_n F.x F.cd dX3_takes_4 rfl (lv_at hl 0 rfl) ?_
  refine s_get F hW (ci := 7) (C := RX3) (T := TX3) (N := 18) (v := .int (nI n)) (t0_1) rfl in_X3 10 (by decide) q2289 (fun _ h9 => h9) rfl dX3_takes_5 ?_
  refine n_icmp_eq (a := p) (b := n) (tgt := 24) F (by omega) (by omega) dX3_takes_8 (by decide) (fun c_8 => ?_) (fun c_8 => ?_)
  · refine lv_iconst (v := (nI 0)) F.x F.cd dX3_takes_24 (by decide) ?_
    have htk : tk (ar 6) n p c = false := tk_f1 c_8
    have tw_2 : IsTw g σ m A (va_up (va_up iv 10 (nI n)) 11 (nI (tkE (ar 6) n p c))) wd ar rb := by
      rw [tkE, if_neg (by rw [htk]; decide)]
      exact ⟨t0_1, tb0, ta0_1, ta1_1, ta2_1, ta3_1, ta4_1, ta5_1, ta6_1, ta7_1, tbb, tii⟩
    obtain ⟨t0_2, -, ta0_2, ta1_2, ta2_2, ta3_2, ta4_2, ta5_2, ta6_2, ta7_2, -, -⟩ := id tw_2
    subst hQ
    exact s_reti (v := (nI 0)) F hW (by decide) (⟨by rw [htk]; rfl, tw_2, Fm.refl⟩) ⟨(Nat.le_of_ble_eq_true rfl), (Nat.le_of_ble_eq_true rfl)⟩ dX3_takes_25
  · have hTp := hT p (by omega)
    refine lv_aload_n F.x F.cd dX3_takes_11 rfl (lv_at hl 0 rfl) ?_
    refine s_get F hW (ci := 7) (C := RX3) (T := TX3) (N := 18) (v := .ref (A 6)) (t0_1) rfl in_X3 9 (by decide) q2288 (fun _ h9 => h9) rfl dX3_takes_12 ?_
    refine lv_aload_n F.x F.cd dX3_takes_15 rfl (lv_at hl 0 rfl) ?_
    refine s_get F hW (ci := 7) (C := RX3) (T := TX3) (N := 18) (v := .int (nI p)) (t0_1) rfl in_X3 11 (by decide) q2290 (fun _ h9 => h9) rfl dX3_takes_16 ?_
    refine n_cald (i := p) (n := 60) (f := (fun x9 => nI ((ar 6) x9))) (x := (nI ((ar 6) p))) F hW (ta6_1) (by omega) (by omega) (rfl) dX3_takes_19 ?_
    refine lv_iload_n F.x F.cd dX3_takes_20 rfl (lv_at hl 1 rfl) ?_
    refine n_icmp_eq (a := (ar 6) p) (b := c) (tgt := 26) F (by omega) (by omega) dX3_takes_21 (by decide) (fun c_21 => ?_) (fun c_21 => ?_)
    · refine lv_aload_n F.x F.cd dX3_takes_26 rfl (lv_at hl 0 rfl) ?_
      refine lv_dup F.x F.cd dX3_takes_27 rfl ?_
      refine s_get F hW (ci := 7) (C := RX3) (T := TX3) (N := 18) (v := .int (nI p)) (t0_1) rfl in_X3 11 (by decide) q2290 (fun _ h9 => h9) rfl dX3_takes_28 ?_
      refine lv_iconst (v := (nI 1)) F.x F.cd dX3_takes_31 (by decide) ?_
      refine a_iadd (v := (nI (p + 1))) F (nI_add _ _) dX3_takes_32 ?_
      refine s_put F hW (ci := 7) (C := RX3) (T := TX3) (N := 18) (v := .int (nI (p + 1))) (ty := .int) (t0_1) (tb0) rfl in_X3 tyX3_ok nmX3 11 (by decide) q2290 (fun _ h9 => h9) rfl (by decide +kernel) rfl rfl (Nat.le_of_ble_eq_true rfl) dX3_takes_33 (fun H locs hW => ?_)
      obtain ⟨σ4, hσ4⟩ : ∃ z, z = sset σ m (.inr (7, [.ref (A 0), .ref (A 1), .ref (A 2), .int (iv 3), .ref (A 3), .int (iv 5), .ref (A 4), .ref (A 5), .int (iv 8), .ref (A 6), .int (nI n), .int (nI (p + 1)), .ref wd, .ref (A 7), .int (iv 14), .int (iv 15), .int (iv 16), .int (iv 17)])) := ⟨_, rfl⟩
      have hW : Hl g σ4 H locs := by rw [hσ4]; exact hW
      have w4 : σ4 m = some (.inr (7, [.ref (A 0), .ref (A 1), .ref (A 2), .int (iv 3), .ref (A 3), .int (iv 5), .ref (A 4), .ref (A 5), .int (iv 8), .ref (A 6), .int (nI n), .int (nI (p + 1)), .ref wd, .ref (A 7), .int (iv 14), .int (iv 15), .int (iv 16), .int (iv 17)])) := by rw [hσ4]; exact sset_eq
      have f5 : σ4 (A 0) = some (eI g 0 114 (fun x9 => nI ((ar 0) x9))) := by rw [hσ4, sset_ne (sto_ne t0_1 ta0_1 (by simp))]; exact ta0_1
      have f6 : σ4 (A 1) = some (eI g 0 114 (fun x9 => nI ((ar 1) x9))) := by rw [hσ4, sset_ne (sto_ne t0_1 ta1_1 (by simp))]; exact ta1_1
      have f7 : σ4 (A 2) = some (eI g 0 912 (fun x9 => nI ((ar 2) x9))) := by rw [hσ4, sset_ne (sto_ne t0_1 ta2_1 (by simp))]; exact ta2_1
      have f8 : σ4 (A 3) = some (eI g 0 114 (fun x9 => nI ((ar 3) x9))) := by rw [hσ4, sset_ne (sto_ne t0_1 ta3_1 (by simp))]; exact ta3_1
      have f9 : σ4 (A 4) = some (eI g 2 2048 (fun x9 => bI (rb x9))) := by rw [hσ4, sset_ne (sto_ne t0_1 ta4_1 (by simp))]; exact ta4_1
      have f10 : σ4 (A 5) = some (eI g 3 60 (fun x9 => nI ((ar 5) x9))) := by rw [hσ4, sset_ne (sto_ne t0_1 ta5_1 (by simp))]; exact ta5_1
      have f11 : σ4 (A 6) = some (eI g 3 60 (fun x9 => nI ((ar 6) x9))) := by rw [hσ4, sset_ne (sto_ne t0_1 ta6_1 (by simp))]; exact ta6_1
      have f12 : σ4 (A 7) = some (eI g 0 3 (fun x9 => nI ((ar 7) x9))) := by rw [hσ4, sset_ne (sto_ne t0_1 ta7_1 (by simp))]; exact ta7_1
      refine lv_iconst (v := (nI 1)) F.x F.cd dX3_takes_36 (by decide) ?_
      have htk : tk (ar 6) n p c = true := tk_t (by omega) c_21
      have tw13 : IsTw g σ4 m A (va_up (va_up iv 10 (nI n)) 11 (nI (p + 1))) wd ar rb := ⟨w4, tb0, f5, f6, f7, f8, f9, f10, f11, f12, tbb, tii⟩
      have fm13 : Fm σ σ4 m A := by rw [hσ4]; exact (Fm.refl).setM
      have tw_14 : IsTw g σ4 m A (va_up (va_up iv 10 (nI n)) 11 (nI (tkE (ar 6) n p c))) wd ar rb := by
        rw [tkE, if_pos htk]
        exact ⟨w4, tb0, f5, f6, f7, f8, f9, f10, f11, f12, tbb, tii⟩
      obtain ⟨t0_14, -, ta0_14, ta1_14, ta2_14, ta3_14, ta4_14, ta5_14, ta6_14, ta7_14, -, -⟩ := id tw_14
      subst hQ
      exact s_reti (v := (nI 1)) F hW (by decide) (⟨by rw [htk]; rfl, tw_14, fm13⟩) ⟨(Nat.le_of_ble_eq_true rfl), (Nat.le_of_ble_eq_true rfl)⟩ dX3_takes_37
    · refine lv_iconst (v := (nI 0)) F.x F.cd dX3_takes_24 (by decide) ?_
      have htk : tk (ar 6) n p c = false := tk_f2 c_21
      have tw_15 : IsTw g σ m A (va_up (va_up iv 10 (nI n)) 11 (nI (tkE (ar 6) n p c))) wd ar rb := by
        rw [tkE, if_neg (by rw [htk]; decide)]
        exact ⟨t0_1, tb0, ta0_1, ta1_1, ta2_1, ta3_1, ta4_1, ta5_1, ta6_1, ta7_1, tbb, tii⟩
      obtain ⟨t0_15, -, ta0_15, ta1_15, ta2_15, ta3_15, ta4_15, ta5_15, ta6_15, ta7_15, -, -⟩ := id tw_15
      subst hQ
      exact s_reti (v := (nI 0)) F hW (by decide) (⟨by rw [htk]; rfl, tw_15, Fm.refl⟩) ⟨(Nat.le_of_ble_eq_true rfl), (Nat.le_of_ble_eq_true rfl)⟩ dX3_takes_25
set_option maxHeartbeats 4000000 in
theorem k_X3_digits (g : Gh) (l : Launch) (σ : Sto) (m : Nat) (A : Nat → Nat) (iv : Nat → Int32) (wd : Nat) (ar : Nat → Nat → Nat) (rb : Nat → Bool) (n p : Nat) (k mm : Nat) (hw : IsTw g σ m A iv wd ar rb) (h10 : iv 10 = nI n) (h11 : iv 11 = nI p) (hpn : p ≤ n) (hn : n ≤ 60) (hT : ∀ j, j < n → ar 6 j < 128) (hk3 : k < 3) (hm3 : mm ≤ 3) : Ct g l yX3_digits cX3_digits 4 (some .boolean) ({ frames := 1, cells := 0, slots := 0, locals := 22 } : Room) [.ref m, .int (nI k), .int (nI mm)] σ (fun r σ' => r = some (.int (bI (decide (0 < dgC (ar 6) n p mm)))) ∧ IsTw g σ' m A (va_up (va_up iv 10 (nI n)) 11 (nI (p + dgC (ar 6) n p mm))) wd (va_up ar 7 (va_up (ar 7) k (dgV (ar 6) n p mm 0))) rb ∧ Fm σ σ' m A) (nox) := by
  refine Ct.body (by decide) (Nat.le_of_ble_eq_true rfl) ?_
  intro p_ e_ s_ m_ args_ below_ meth_ c_ ls H locs Q F hW hl hQ
  have hl : lv_has ls 4 [(0, .ref m), (1, .int (nI k)), (2, .int (nI mm))] := hl
  obtain ⟨t0, tb0, ta0, ta1, ta2, ta3, ta4, ta5, ta6, ta7, tbb, tii⟩ := id hw
  have tw_1 : IsTw g σ m A (va_up (va_up iv 10 (nI n)) 11 (nI p)) wd ar rb := by
    rw [← h10, ← h11]
    exact ⟨t0, tb0, ta0, ta1, ta2, ta3, ta4, ta5, ta6, ta7, tbb, tii⟩
  obtain ⟨t0_1, -, ta0_1, ta1_1, ta2_1, ta3_1, ta4_1, ta5_1, ta6_1, ta7_1, -, -⟩ := id tw_1
  refine lv_iconst (v := (nI 0)) F.x F.cd dX3_digits_0 (by decide) ?_
  refine lv_istore_n (lv' := [(3, .int (nI 0)), (0, .ref m), (1, .int (nI k)), (2, .int (nI mm))]) F.x F.cd dX3_digits_1 rfl hl (by decide) rfl (fun ls hl => ?_)
  refine lv_aload_n F.x F.cd dX3_digits_2 rfl (lv_at hl 1 rfl) ?_
  refine s_get F hW (ci := 7) (C := RX3) (T := TX3) (N := 18) (v := .ref (A 7)) (t0_1) rfl in_X3 13 (by decide) q2292 (fun _ h9 => h9) rfl dX3_digits_3 ?_
  refine lv_iload_n F.x F.cd dX3_digits_6 rfl (lv_at hl 2 rfl) ?_
  refine lv_iconst (v := (nI 0)) F.x F.cd dX3_digits_7 (by decide) ?_
  refine n_iastN (i := k) F hW (ta7_1) (tbb 7 (by decide)) (by omega) (by omega) dX3_digits_8 (fun H locs hW => ?_)
  obtain ⟨σ2, hσ2⟩ : ∃ z, z = sset σ (A 7) (eI g 0 3 (fun x9 => nI ((va_up (ar 7) k 0) x9))) := ⟨_, rfl⟩
  have hW : Hl g σ2 H locs := by rw [hσ2]; exact hW
  have w2 : σ2 (A 7) = some (eI g 0 3 (fun x9 => nI ((va_up (ar 7) k 0) x9))) := by rw [hσ2]; exact sset_eq
  have f3 : σ2 m = some (.inr (7, [.ref (A 0), .ref (A 1), .ref (A 2), .int (iv 3), .ref (A 3), .int (iv 5), .ref (A 4), .ref (A 5), .int (iv 8), .ref (A 6), .int (nI n), .int (nI p), .ref wd, .ref (A 7), .int (iv 14), .int (iv 15), .int (iv 16), .int (iv 17)])) := by rw [hσ2, sset_ne (sto_ne ta7_1 t0_1 (by simp))]; exact t0_1
  have f4 : σ2 (A 0) = some (eI g 0 114 (fun x9 => nI ((ar 0) x9))) := by rw [hσ2, sset_ne (fun q9 => absurd (tii 0 7 (by decide) (by decide) q9) (by decide))]; exact ta0_1
  have f5 : σ2 (A 1) = some (eI g 0 114 (fun x9 => nI ((ar 1) x9))) := by rw [hσ2, sset_ne (fun q9 => absurd (tii 1 7 (by decide) (by decide) q9) (by decide))]; exact ta1_1
  have f6 : σ2 (A 2) = some (eI g 0 912 (fun x9 => nI ((ar 2) x9))) := by rw [hσ2, sset_ne (fun q9 => absurd (tii 2 7 (by decide) (by decide) q9) (by decide))]; exact ta2_1
  have f7 : σ2 (A 3) = some (eI g 0 114 (fun x9 => nI ((ar 3) x9))) := by rw [hσ2, sset_ne (fun q9 => absurd (tii 3 7 (by decide) (by decide) q9) (by decide))]; exact ta3_1
  have f8 : σ2 (A 4) = some (eI g 2 2048 (fun x9 => bI (rb x9))) := by rw [hσ2, sset_ne (fun q9 => absurd (tii 4 7 (by decide) (by decide) q9) (by decide))]; exact ta4_1
  have f9 : σ2 (A 5) = some (eI g 3 60 (fun x9 => nI ((ar 5) x9))) := by rw [hσ2, sset_ne (fun q9 => absurd (tii 5 7 (by decide) (by decide) q9) (by decide))]; exact ta5_1
  have f10 : σ2 (A 6) = some (eI g 3 60 (fun x9 => nI ((ar 6) x9))) := by rw [hσ2, sset_ne (fun q9 => absurd (tii 6 7 (by decide) (by decide) q9) (by decide))]; exact ta6_1
  have tw11 : IsTw g σ2 m A (va_up (va_up iv 10 (nI n)) 11 (nI p)) wd (va_up ar 7 (va_up (ar 7) k 0)) rb := ⟨f3, tb0, f4, f5, f6, f7, f8, f9, f10, w2, tbb, tii⟩
  have fm11 : Fm σ σ2 m A := by rw [hσ2]; exact (Fm.refl).setA 7 (by decide)
  have tw_12 : IsTw g σ2 m A (va_up (va_up iv 10 (nI n)) 11 (nI (p + 0))) wd (va_up ar 7 (va_up (ar 7) k 0)) rb := by
    rw [Nat.add_zero]
    exact ⟨f3, tb0, f4, f5, f6, f7, f8, f9, f10, w2, tbb, tii⟩
  obtain ⟨t0_12, -, ta0_12, ta1_12, ta2_12, ta3_12, ta4_12, ta5_12, ta6_12, ta7_12, -, -⟩ := id tw_12
  have loop9 : ∀ (nj : Nat) (j : Nat) (σj : Sto) (acc : Nat), j + nj = mm → IsTw g σj m A (va_up (va_up iv 10 (nI n)) 11 (nI (p + j))) wd (va_up ar 7 (va_up (ar 7) k acc)) rb → Fm σ σj m A → (j + dgC (ar 6) n (p + j) nj = dgC (ar 6) n p mm) → (dgV (ar 6) n (p + j) nj acc = dgV (ar 6) n p mm 0) → p + j ≤ n → ∀ (H : Heap) (locs : List Loc) (ls : Array Slot), Hl g σj H locs → lv_has ls 4 [(0, .ref m), (1, .int (nI k)), (2, .int (nI mm)), (3, .int (nI j))] → W p_ l e_ ({ frames := 1, cells := 0, slots := 0, locals := 22 } : Room) s_ m_ args_ below_ meth_ c_ H locs 0 0 Q (F0 m_ 9 ls ([])) := by
    intro nj
    induction nj with
    | zero =>
      intro j σj acc hknj twj fmj hfc hfv hpj H locs ls hW hl
      obtain ⟨t0_k13, -, ta0_k13, ta1_k13, ta2_k13, ta3_k13, ta4_k13, ta5_k13, ta6_k13, ta7_k13, -, -⟩ := id twj
      refine lv_iload_n F.x F.cd dX3_digits_9 rfl (lv_at hl 3 rfl) ?_
      refine lv_iload_n F.x F.cd dX3_digits_10 rfl (lv_at hl 2 rfl) ?_
      refine n_icmp_ge (a := j) (b := mm) (tgt := 85) F (by omega) (by omega) dX3_digits_11 (by decide) (fun c_11 => ?_) (fun c_11 => ?_)
      · rw [dgC] at hfc
        rw [dgV] at hfv
        have tw_14 : IsTw g σj m A (va_up (va_up iv 10 (nI n)) 11 (nI (p + dgC (ar 6) n p mm))) wd (va_up ar 7 (va_up (ar 7) k (dgV (ar 6) n p mm 0))) rb := by
          rw [← hfc, ← hfv, Nat.add_zero]
          exact ⟨t0_k13, tb0, ta0_k13, ta1_k13, ta2_k13, ta3_k13, ta4_k13, ta5_k13, ta6_k13, ta7_k13, tbb, tii⟩
        obtain ⟨t0_14, -, ta0_14, ta1_14, ta2_14, ta3_14, ta4_14, ta5_14, ta6_14, ta7_14, -, -⟩ := id tw_14
        have hl : lv_has ls 4 [(0, .ref m), (1, .int (nI k)), (2, .int (nI mm)), (3, .int (nI (dgC (ar 6) n p mm)))] := by rw [← hfc, Nat.add_zero]; exact hl
        have hcl := dgC_le (T := ar 6) (n := n) mm p
        refine lv_iload_n F.x F.cd dX3_digits_85 rfl (lv_at hl 3 rfl) ?_
        refine n_if_le (a := dgC (ar 6) n p mm) (tgt := 93) F (by omega) dX3_digits_86 (by decide) (fun c_86 => ?_) (fun c_86 => ?_)
        · refine lv_iconst (v := (nI 0)) F.x F.cd dX3_digits_93 (by decide) ?_
          subst hQ
          exact s_reti (v := (nI 0)) F hW (by decide) (⟨by rw [decide_eq_false (show ¬ 0 < dgC (ar 6) n p mm by omega)]; rfl, tw_14, fmj⟩) ⟨(Nat.le_of_ble_eq_true rfl), (Nat.le_of_ble_eq_true rfl)⟩ dX3_digits_94
        · refine lv_iconst (v := (nI 1)) F.x F.cd dX3_digits_89 (by decide) ?_
          refine lv_goto (tgt := 94) F.x F.cd dX3_digits_90 (by decide) ?_
          subst hQ
          exact s_reti (v := (nI 1)) F hW (by decide) (⟨by rw [decide_eq_true (show 0 < dgC (ar 6) n p mm by omega)]; rfl, tw_14, fmj⟩) ⟨(Nat.le_of_ble_eq_true rfl), (Nat.le_of_ble_eq_true rfl)⟩ dX3_digits_94
      · exact absurd c_11 (by omega)
    | succ nj ih9 =>
      intro j σj acc hknj twj fmj hfc hfv hpj H locs ls hW hl
      obtain ⟨t0_k13, -, ta0_k13, ta1_k13, ta2_k13, ta3_k13, ta4_k13, ta5_k13, ta6_k13, ta7_k13, -, -⟩ := id twj
      refine lv_iload_n F.x F.cd dX3_digits_9 rfl (lv_at hl 3 rfl) ?_
      refine lv_iload_n F.x F.cd dX3_digits_10 rfl (lv_at hl 2 rfl) ?_
      refine n_icmp_ge (a := j) (b := mm) (tgt := 85) F (by omega) (by omega) dX3_digits_11 (by decide) (fun c_11 => ?_) (fun c_11 => ?_)
      · exact absurd c_11 (by omega)
      · refine lv_aload_n F.x F.cd dX3_digits_14 rfl (lv_at hl 0 rfl) ?_
        refine s_get F hW (ci := 7) (C := RX3) (T := TX3) (N := 18) (v := .int (nI (p + j))) (t0_k13) rfl in_X3 11 (by decide) q2290 (fun _ h9 => h9) rfl dX3_digits_15 ?_
        refine lv_aload_n F.x F.cd dX3_digits_18 rfl (lv_at hl 0 rfl) ?_
        refine s_get F hW (ci := 7) (C := RX3) (T := TX3) (N := 18) (v := .int (nI n)) (t0_k13) rfl in_X3 10 (by decide) q2289 (fun _ h9 => h9) rfl dX3_digits_19 ?_
        refine n_icmp_ge (a := p + j) (b := n) (tgt := 85) F (by omega) (by omega) dX3_digits_22 (by decide) (fun c_22 => ?_) (fun c_22 => ?_)
        · have h9d : ¬ (p + j < n ∧ 48 ≤ ar 6 (p + j) ∧ ar 6 (p + j) ≤ 57) := fun h9 => absurd h9.1 (by omega)
          rw [dgC_f h9d] at hfc
          rw [dgV_f h9d] at hfv
          have tw_15 : IsTw g σj m A (va_up (va_up iv 10 (nI n)) 11 (nI (p + dgC (ar 6) n p mm))) wd (va_up ar 7 (va_up (ar 7) k (dgV (ar 6) n p mm 0))) rb := by
            rw [← hfc, ← hfv, Nat.add_zero]
            exact ⟨t0_k13, tb0, ta0_k13, ta1_k13, ta2_k13, ta3_k13, ta4_k13, ta5_k13, ta6_k13, ta7_k13, tbb, tii⟩
          obtain ⟨t0_15, -, ta0_15, ta1_15, ta2_15, ta3_15, ta4_15, ta5_15, ta6_15, ta7_15, -, -⟩ := id tw_15
          have hl : lv_has ls 4 [(0, .ref m), (1, .int (nI k)), (2, .int (nI mm)), (3, .int (nI (dgC (ar 6) n p mm)))] := by rw [← hfc, Nat.add_zero]; exact hl
          have hcl := dgC_le (T := ar 6) (n := n) mm p
          refine lv_iload_n F.x F.cd dX3_digits_85 rfl (lv_at hl 3 rfl) ?_
          refine n_if_le (a := dgC (ar 6) n p mm) (tgt := 93) F (by omega) dX3_digits_86 (by decide) (fun c_86 => ?_) (fun c_86 => ?_)
          · refine lv_iconst (v := (nI 0)) F.x F.cd dX3_digits_93 (by decide) ?_
            subst hQ
            exact s_reti (v := (nI 0)) F hW (by decide) (⟨by rw [decide_eq_false (show ¬ 0 < dgC (ar 6) n p mm by omega)]; rfl, tw_15, fmj⟩) ⟨(Nat.le_of_ble_eq_true rfl), (Nat.le_of_ble_eq_true rfl)⟩ dX3_digits_94
          · refine lv_iconst (v := (nI 1)) F.x F.cd dX3_digits_89 (by decide) ?_
            refine lv_goto (tgt := 94) F.x F.cd dX3_digits_90 (by decide) ?_
            subst hQ
            exact s_reti (v := (nI 1)) F hW (by decide) (⟨by rw [decide_eq_true (show 0 < dgC (ar 6) n p mm by omega)]; rfl, tw_15, fmj⟩) ⟨(Nat.le_of_ble_eq_true rfl), (Nat.le_of_ble_eq_true rfl)⟩ dX3_digits_94
        · have hTp := hT (p + j) (by omega)
          refine lv_aload_n F.x F.cd dX3_digits_25 rfl (lv_at hl 0 rfl) ?_
          refine s_get F hW (ci := 7) (C := RX3) (T := TX3) (N := 18) (v := .ref (A 6)) (t0_k13) rfl in_X3 9 (by decide) q2288 (fun _ h9 => h9) rfl dX3_digits_26 ?_
          refine lv_aload_n F.x F.cd dX3_digits_29 rfl (lv_at hl 0 rfl) ?_
          refine s_get F hW (ci := 7) (C := RX3) (T := TX3) (N := 18) (v := .int (nI (p + j))) (t0_k13) rfl in_X3 11 (by decide) q2290 (fun _ h9 => h9) rfl dX3_digits_30 ?_
          refine n_cald (i := p + j) (n := 60) (f := (fun x9 => nI ((ar 6) x9))) (x := (nI ((ar 6) (p + j)))) F hW (ta6_k13) (by omega) (by omega) (rfl) dX3_digits_33 ?_
          refine lv_bipush (v := (nI 48)) F.x F.cd dX3_digits_34 (by decide) ?_
          refine lv_bipush (v := (nI 57)) F.x F.cd dX3_digits_36 (by decide) ?_
          refine s_callS (As := [.int (nI ((ar 6) (p + j))), .int (nI 48), .int (nI 57)]) (rest := []) (n := 3) F hW (k_X3_in g l σj (nI ((ar 6) (p + j))) (nI 48) (nI 57)) q2351 q2352 q79 q2353 (by decide +kernel) rfl ⟨⟨Nat.le_of_ble_eq_true rfl, Nat.le_of_ble_eq_true rfl⟩, ⟨(Nat.le_of_ble_eq_true rfl), (Nat.le_of_ble_eq_true rfl)⟩⟩ (Nat.le_of_ble_eq_true rfl) hl.1 rfl dX3_digits_38 cX_no (fun r16 σ16 H locs hp16 hW => ?_)
          obtain ⟨rfl, hs16⟩ := hp16
          rw [hs16] at hW
          refine W.eq (g2 := F0 m_ 41 ls (.int (bI (btw (nI ((ar 6) (p + j))) (nI 48) (nI 57))) :: [])) rfl ?_
          refine W.eq (g2 := F0 m_ 41 ls (.int (bI (decide (48 ≤ ar 6 (p + j) ∧ ar 6 (p + j) ≤ 57))) :: [])) (by rw [btwN (by omega) (by decide) (by decide)]) ?_
          refine b_if_eq (b := (decide (48 ≤ ar 6 (p + j) ∧ ar 6 (p + j) ≤ 57))) (tgt := 85) F dX3_digits_41 (by decide) (fun c_41 => ?_) (fun c_41 => ?_)
          · have h9d : ¬ (p + j < n ∧ 48 ≤ ar 6 (p + j) ∧ ar 6 (p + j) ≤ 57) := fun h9 => absurd (decide_eq_true h9.2) (by rw [c_41]; decide)
            rw [dgC_f h9d] at hfc
            rw [dgV_f h9d] at hfv
            have tw_17 : IsTw g σj m A (va_up (va_up iv 10 (nI n)) 11 (nI (p + dgC (ar 6) n p mm))) wd (va_up ar 7 (va_up (ar 7) k (dgV (ar 6) n p mm 0))) rb := by
              rw [← hfc, ← hfv, Nat.add_zero]
              exact ⟨t0_k13, tb0, ta0_k13, ta1_k13, ta2_k13, ta3_k13, ta4_k13, ta5_k13, ta6_k13, ta7_k13, tbb, tii⟩
            obtain ⟨t0_17, -, ta0_17, ta1_17, ta2_17, ta3_17, ta4_17, ta5_17, ta6_17, ta7_17, -, -⟩ := id tw_17
            have hl : lv_has ls 4 [(0, .ref m), (1, .int (nI k)), (2, .int (nI mm)), (3, .int (nI (dgC (ar 6) n p mm)))] := by rw [← hfc, Nat.add_zero]; exact hl
            have hcl := dgC_le (T := ar 6) (n := n) mm p
            refine lv_iload_n F.x F.cd dX3_digits_85 rfl (lv_at hl 3 rfl) ?_
            refine n_if_le (a := dgC (ar 6) n p mm) (tgt := 93) F (by omega) dX3_digits_86 (by decide) (fun c_86 => ?_) (fun c_86 => ?_)
            · refine lv_iconst (v := (nI 0)) F.x F.cd dX3_digits_93 (by decide) ?_
              subst hQ
              exact s_reti (v := (nI 0)) F hW (by decide) (⟨by rw [decide_eq_false (show ¬ 0 < dgC (ar 6) n p mm by omega)]; rfl, tw_17, fmj⟩) ⟨(Nat.le_of_ble_eq_true rfl), (Nat.le_of_ble_eq_true rfl)⟩ dX3_digits_94
            · refine lv_iconst (v := (nI 1)) F.x F.cd dX3_digits_89 (by decide) ?_
              refine lv_goto (tgt := 94) F.x F.cd dX3_digits_90 (by decide) ?_
              subst hQ
              exact s_reti (v := (nI 1)) F hW (by decide) (⟨by rw [decide_eq_true (show 0 < dgC (ar 6) n p mm by omega)]; rfl, tw_17, fmj⟩) ⟨(Nat.le_of_ble_eq_true rfl), (Nat.le_of_ble_eq_true rfl)⟩ dX3_digits_94
          · have h8d := of_decide_eq_true c_41
            have h9d : p + j < n ∧ 48 ≤ ar 6 (p + j) ∧ ar 6 (p + j) ≤ 57 := ⟨by omega, h8d⟩
            refine lv_aload_n F.x F.cd dX3_digits_44 rfl (lv_at hl 0 rfl) ?_
            refine s_get F hW (ci := 7) (C := RX3) (T := TX3) (N := 18) (v := .ref (A 7)) (t0_k13) rfl in_X3 13 (by decide) q2292 (fun _ h9 => h9) rfl dX3_digits_45 ?_
            refine lv_iload_n F.x F.cd dX3_digits_48 rfl (lv_at hl 1 rfl) ?_
            refine lv_bipush (v := (nI 10)) F.x F.cd dX3_digits_49 (by decide) ?_
            refine lv_aload_n F.x F.cd dX3_digits_51 rfl (lv_at hl 0 rfl) ?_
            refine s_get F hW (ci := 7) (C := RX3) (T := TX3) (N := 18) (v := .ref (A 7)) (t0_k13) rfl in_X3 13 (by decide) q2292 (fun _ h9 => h9) rfl dX3_digits_52 ?_
            refine lv_iload_n F.x F.cd dX3_digits_55 rfl (lv_at hl 1 rfl) ?_
            refine n_iald (i := k) (n := 3) (f := (fun x9 => nI ((va_up (ar 7) k acc) x9))) (x := (nI acc)) F hW (ta7_k13) (by omega) (by omega) (by show nI _ = nI _; rw [va_up_self]) dX3_digits_56 ?_
            refine a_imul (v := (nI (10 * acc))) F (pk_mul _ _) dX3_digits_57 ?_
            refine lv_aload_n F.x F.cd dX3_digits_58 rfl (lv_at hl 0 rfl) ?_
            refine s_get F hW (ci := 7) (C := RX3) (T := TX3) (N := 18) (v := .ref (A 6)) (t0_k13) rfl in_X3 9 (by decide) q2288 (fun _ h9 => h9) rfl dX3_digits_59 ?_
            refine lv_aload_n F.x F.cd dX3_digits_62 rfl (lv_at hl 0 rfl) ?_
            refine lv_dup F.x F.cd dX3_digits_63 rfl ?_
            refine s_get F hW (ci := 7) (C := RX3) (T := TX3) (N := 18) (v := .int (nI (p + j))) (t0_k13) rfl in_X3 11 (by decide) q2290 (fun _ h9 => h9) rfl dX3_digits_64 ?_
            refine lv_dup_x1 F.x F.cd dX3_digits_67 rfl rfl ?_
            refine lv_iconst (v := (nI 1)) F.x F.cd dX3_digits_68 (by decide) ?_
            refine a_iadd (v := (nI (p + j + 1))) F (nI_add _ _) dX3_digits_69 ?_
            refine s_put F hW (ci := 7) (C := RX3) (T := TX3) (N := 18) (v := .int (nI (p + j + 1))) (ty := .int) (t0_k13) (tb0) rfl in_X3 tyX3_ok nmX3 11 (by decide) q2290 (fun _ h9 => h9) rfl (by decide +kernel) rfl rfl (Nat.le_of_ble_eq_true rfl) dX3_digits_70 (fun H locs hW => ?_)
            obtain ⟨σ19, hσ19⟩ : ∃ z, z = sset σj m (.inr (7, [.ref (A 0), .ref (A 1), .ref (A 2), .int (iv 3), .ref (A 3), .int (iv 5), .ref (A 4), .ref (A 5), .int (iv 8), .ref (A 6), .int (nI n), .int (nI (p + j + 1)), .ref wd, .ref (A 7), .int (iv 14), .int (iv 15), .int (iv 16), .int (iv 17)])) := ⟨_, rfl⟩
            have hW : Hl g σ19 H locs := by rw [hσ19]; exact hW
            have w19 : σ19 m = some (.inr (7, [.ref (A 0), .ref (A 1), .ref (A 2), .int (iv 3), .ref (A 3), .int (iv 5), .ref (A 4), .ref (A 5), .int (iv 8), .ref (A 6), .int (nI n), .int (nI (p + j + 1)), .ref wd, .ref (A 7), .int (iv 14), .int (iv 15), .int (iv 16), .int (iv 17)])) := by rw [hσ19]; exact sset_eq
            have f20 : σ19 (A 0) = some (eI g 0 114 (fun x9 => nI ((ar 0) x9))) := by rw [hσ19, sset_ne (sto_ne t0_k13 ta0_k13 (by simp))]; exact ta0_k13
            have f21 : σ19 (A 1) = some (eI g 0 114 (fun x9 => nI ((ar 1) x9))) := by rw [hσ19, sset_ne (sto_ne t0_k13 ta1_k13 (by simp))]; exact ta1_k13
            have f22 : σ19 (A 2) = some (eI g 0 912 (fun x9 => nI ((ar 2) x9))) := by rw [hσ19, sset_ne (sto_ne t0_k13 ta2_k13 (by simp))]; exact ta2_k13
            have f23 : σ19 (A 3) = some (eI g 0 114 (fun x9 => nI ((ar 3) x9))) := by rw [hσ19, sset_ne (sto_ne t0_k13 ta3_k13 (by simp))]; exact ta3_k13
            have f24 : σ19 (A 4) = some (eI g 2 2048 (fun x9 => bI (rb x9))) := by rw [hσ19, sset_ne (sto_ne t0_k13 ta4_k13 (by simp))]; exact ta4_k13
            have f25 : σ19 (A 5) = some (eI g 3 60 (fun x9 => nI ((ar 5) x9))) := by rw [hσ19, sset_ne (sto_ne t0_k13 ta5_k13 (by simp))]; exact ta5_k13
            have f26 : σ19 (A 6) = some (eI g 3 60 (fun x9 => nI ((ar 6) x9))) := by rw [hσ19, sset_ne (sto_ne t0_k13 ta6_k13 (by simp))]; exact ta6_k13
            have f27 : σ19 (A 7) = some (eI g 0 3 (fun x9 => nI ((va_up (ar 7) k acc) x9))) := by rw [hσ19, sset_ne (sto_ne t0_k13 ta7_k13 (by simp))]; exact ta7_k13
            refine n_cald (i := p + j) (n := 60) (f := (fun x9 => nI ((ar 6) x9))) (x := (nI ((ar 6) (p + j)))) F hW (f26) (by omega) (by omega) (rfl) dX3_digits_73 ?_
            refine a_iadd (v := (nI (10 * acc + ((ar 6) (p + j))))) F (nI_add _ _) dX3_digits_74 ?_
            refine lv_bipush (v := (nI 48)) F.x F.cd dX3_digits_75 (by decide) ?_
            refine a_isub (v := (nI (10 * acc + (ar 6 (p + j) - 48)))) F ((pk_sub (by omega)).trans (by rw [show 10 * acc + ar 6 (p + j) - 48 = 10 * acc + (ar 6 (p + j) - 48) by omega])) dX3_digits_77 ?_
            refine n_iastN (i := k) F hW (f27) (tbb 7 (by decide)) (by omega) (by omega) dX3_digits_78 (fun H locs hW => ?_)
            obtain ⟨σ28, hσ28⟩ : ∃ z, z = sset σ19 (A 7) (eI g 0 3 (fun x9 => nI ((va_up (va_up (ar 7) k acc) k (10 * acc + (ar 6 (p + j) - 48))) x9))) := ⟨_, rfl⟩
            have hW : Hl g σ28 H locs := by rw [hσ28]; exact hW
            have w28 : σ28 (A 7) = some (eI g 0 3 (fun x9 => nI ((va_up (va_up (ar 7) k acc) k (10 * acc + (ar 6 (p + j) - 48))) x9))) := by rw [hσ28]; exact sset_eq
            have f29 : σ28 m = some (.inr (7, [.ref (A 0), .ref (A 1), .ref (A 2), .int (iv 3), .ref (A 3), .int (iv 5), .ref (A 4), .ref (A 5), .int (iv 8), .ref (A 6), .int (nI n), .int (nI (p + j + 1)), .ref wd, .ref (A 7), .int (iv 14), .int (iv 15), .int (iv 16), .int (iv 17)])) := by rw [hσ28, sset_ne (sto_ne f27 w19 (by simp))]; exact w19
            have f30 : σ28 (A 0) = some (eI g 0 114 (fun x9 => nI ((ar 0) x9))) := by rw [hσ28, sset_ne (fun q9 => absurd (tii 0 7 (by decide) (by decide) q9) (by decide))]; exact f20
            have f31 : σ28 (A 1) = some (eI g 0 114 (fun x9 => nI ((ar 1) x9))) := by rw [hσ28, sset_ne (fun q9 => absurd (tii 1 7 (by decide) (by decide) q9) (by decide))]; exact f21
            have f32 : σ28 (A 2) = some (eI g 0 912 (fun x9 => nI ((ar 2) x9))) := by rw [hσ28, sset_ne (fun q9 => absurd (tii 2 7 (by decide) (by decide) q9) (by decide))]; exact f22
            have f33 : σ28 (A 3) = some (eI g 0 114 (fun x9 => nI ((ar 3) x9))) := by rw [hσ28, sset_ne (fun q9 => absurd (tii 3 7 (by decide) (by decide) q9) (by decide))]; exact f23
            have f34 : σ28 (A 4) = some (eI g 2 2048 (fun x9 => bI (rb x9))) := by rw [hσ28, sset_ne (fun q9 => absurd (tii 4 7 (by decide) (by decide) q9) (by decide))]; exact f24
            have f35 : σ28 (A 5) = some (eI g 3 60 (fun x9 => nI ((ar 5) x9))) := by rw [hσ28, sset_ne (fun q9 => absurd (tii 5 7 (by decide) (by decide) q9) (by decide))]; exact f25
            have f36 : σ28 (A 6) = some (eI g 3 60 (fun x9 => nI ((ar 6) x9))) := by rw [hσ28, sset_ne (fun q9 => absurd (tii 6 7 (by decide) (by decide) q9) (by decide))]; exact f26
            have tw37 : IsTw g σ28 m A (va_up (va_up iv 10 (nI n)) 11 (nI (p + j + 1))) wd (va_up ar 7 (va_up (va_up (ar 7) k acc) k (10 * acc + (ar 6 (p + j) - 48)))) rb := ⟨f29, tb0, f30, f31, f32, f33, f34, f35, f36, w28, tbb, tii⟩
            have fm37 : Fm σ σ28 m A := by rw [hσ28, hσ19]; exact ((fmj).setM).setA 7 (by decide)
            have tw_38 : IsTw g σ28 m A (va_up (va_up iv 10 (nI n)) 11 (nI (p + (j + 1)))) wd (va_up ar 7 (va_up (ar 7) k (10 * acc + (ar 6 (p + j) - 48)))) rb := by
              rw [← Nat.add_assoc, ← va_up_up (f := ar 7) (i := k) (x := acc)]
              exact ⟨f29, tb0, f30, f31, f32, f33, f34, f35, f36, w28, tbb, tii⟩
            obtain ⟨t0_38, -, ta0_38, ta1_38, ta2_38, ta3_38, ta4_38, ta5_38, ta6_38, ta7_38, -, -⟩ := id tw_38
            refine lv_iinc (k := 3) (v := (nI (j + 1))) (lv' := [(3, .int (nI (j + 1))), (0, .ref m), (1, .int (nI k)), (2, .int (nI mm))]) F.x F.cd dX3_digits_79 hl rfl (inc_nI j 1) (by decide) rfl (fun ls hl => ?_)
            refine lv_goto (tgt := 9) F.x F.cd dX3_digits_82 (by decide) ?_
            exact ih9 (j + 1) σ28 (10 * acc + (ar 6 (p + j) - 48)) (by omega) (tw_38) (fm37) (by rw [show p + (j + 1) = p + j + 1 from rfl]; rw [dgC_t h9d] at hfc; omega) (by rw [dgV_t h9d] at hfv; exact hfv) (by omega) H locs ls hW (lv_sub hl [1, 2, 3, 0] rfl)
  exact loop9 (mm) 0 _ 0 (by omega) (tw_12) (fm11) (Nat.zero_add _) (rfl) (by omega) H locs ls hW (lv_sub hl [1, 2, 3, 0] rfl)
set_option maxHeartbeats 4000000 in
theorem k_X3_isSet (g : Gh) (l : Launch) (σ : Sto) (m : Nat) (A : Nat → Nat) (iv : Nat → Int32) (wd : Nat) (ar : Nat → Nat → Nat) (rb : Nat → Bool) (n p : Nat) (hw : IsTw g σ m A iv wd ar rb) (h10 : iv 10 = nI n) (h11 : iv 11 = nI p) (hpn : p ≤ n) (hn : n ≤ 60) (hT : ∀ j, j < n → ar 6 j < 128) : Ct g l yX3_isSet cX3_isSet 2 (some .boolean) ({ frames := 1, cells := 0, slots := 0, locals := 22 } : Room) [.ref m] σ (fun r σ' => r = some (.int (bI (tk (ar 6) n p 47))) ∧ IsTw g σ' m A (va_up (va_up iv 10 (nI n)) 11 (nI ((if tk (ar 6) n p 47 = true then seE (ar 6) n (n - (p + 1)) (p + 1) 97 else p)))) wd (va_up ar 7 (va_up (ar 7) 2 (if tk (ar 6) n p 47 = true then seV (ar 6) n (n - (p + 1)) (p + 1) 97 0 else 0))) rb ∧ Fm σ σ' m A) (nox) := by
  refine Ct.body (by decide) (Nat.le_of_ble_eq_true rfl) ?_
  intro p_ e_ s_ m_ args_ below_ meth_ c_ ls H locs Q F hW hl hQ
  have hl : lv_has ls 2 [(0, .ref m)] := hl
  obtain ⟨t0, tb0, ta0, ta1, ta2, ta3, ta4, ta5, ta6, ta7, tbb, tii⟩ := id hw
  have tw_1 : IsTw g σ m A (va_up (va_up iv 10 (nI n)) 11 (nI p)) wd ar rb := by
    rw [← h10, ← h11]
    exact ⟨t0, tb0, ta0, ta1, ta2, ta3, ta4, ta5, ta6, ta7, tbb, tii⟩
  obtain ⟨t0_1, -, ta0_1, ta1_1, ta2_1, ta3_1, ta4_1, ta5_1, ta6_1, ta7_1, -, -⟩ := id tw_1
  refine lv_aload_n F.x F.cd dX3_isSet_0 rfl (lv_at hl 0 rfl) ?_
  refine s_get F hW (ci := 7) (C := RX3) (T := TX3) (N := 18) (v := .ref (A 7)) (t0_1) rfl in_X3 13 (by decide) q2292 (fun _ h9 => h9) rfl dX3_isSet_1 ?_
  refine lv_iconst (v := (nI 2)) F.x F.cd dX3_isSet_4 (by decide) ?_
  refine lv_iconst (v := (nI 0)) F.x F.cd dX3_isSet_5 (by decide) ?_
  refine n_iastN (i := 2) F hW (ta7_1) (tbb 7 (by decide)) (by omega) (by omega) dX3_isSet_6 (fun H locs hW => ?_)
  obtain ⟨σ2, hσ2⟩ : ∃ z, z = sset σ (A 7) (eI g 0 3 (fun x9 => nI ((va_up (ar 7) 2 0) x9))) := ⟨_, rfl⟩
  have hW : Hl g σ2 H locs := by rw [hσ2]; exact hW
  have w2 : σ2 (A 7) = some (eI g 0 3 (fun x9 => nI ((va_up (ar 7) 2 0) x9))) := by rw [hσ2]; exact sset_eq
  have f3 : σ2 m = some (.inr (7, [.ref (A 0), .ref (A 1), .ref (A 2), .int (iv 3), .ref (A 3), .int (iv 5), .ref (A 4), .ref (A 5), .int (iv 8), .ref (A 6), .int (nI n), .int (nI p), .ref wd, .ref (A 7), .int (iv 14), .int (iv 15), .int (iv 16), .int (iv 17)])) := by rw [hσ2, sset_ne (sto_ne ta7_1 t0_1 (by simp))]; exact t0_1
  have f4 : σ2 (A 0) = some (eI g 0 114 (fun x9 => nI ((ar 0) x9))) := by rw [hσ2, sset_ne (fun q9 => absurd (tii 0 7 (by decide) (by decide) q9) (by decide))]; exact ta0_1
  have f5 : σ2 (A 1) = some (eI g 0 114 (fun x9 => nI ((ar 1) x9))) := by rw [hσ2, sset_ne (fun q9 => absurd (tii 1 7 (by decide) (by decide) q9) (by decide))]; exact ta1_1
  have f6 : σ2 (A 2) = some (eI g 0 912 (fun x9 => nI ((ar 2) x9))) := by rw [hσ2, sset_ne (fun q9 => absurd (tii 2 7 (by decide) (by decide) q9) (by decide))]; exact ta2_1
  have f7 : σ2 (A 3) = some (eI g 0 114 (fun x9 => nI ((ar 3) x9))) := by rw [hσ2, sset_ne (fun q9 => absurd (tii 3 7 (by decide) (by decide) q9) (by decide))]; exact ta3_1
  have f8 : σ2 (A 4) = some (eI g 2 2048 (fun x9 => bI (rb x9))) := by rw [hσ2, sset_ne (fun q9 => absurd (tii 4 7 (by decide) (by decide) q9) (by decide))]; exact ta4_1
  have f9 : σ2 (A 5) = some (eI g 3 60 (fun x9 => nI ((ar 5) x9))) := by rw [hσ2, sset_ne (fun q9 => absurd (tii 5 7 (by decide) (by decide) q9) (by decide))]; exact ta5_1
  have f10 : σ2 (A 6) = some (eI g 3 60 (fun x9 => nI ((ar 6) x9))) := by rw [hσ2, sset_ne (fun q9 => absurd (tii 6 7 (by decide) (by decide) q9) (by decide))]; exact ta6_1
  refine lv_aload_n F.x F.cd dX3_isSet_7 rfl (lv_at hl 0 rfl) ?_
  refine lv_bipush (v := (nI 47)) F.x F.cd dX3_isSet_8 (by decide) ?_
  have tw11 : IsTw g σ2 m A (va_up (va_up iv 10 (nI n)) 11 (nI p)) wd (va_up ar 7 (va_up (ar 7) 2 0)) rb := ⟨f3, tb0, f4, f5, f6, f7, f8, f9, f10, w2, tbb, tii⟩
  have fm11 : Fm σ σ2 m A := by rw [hσ2]; exact (Fm.refl).setA 7 (by decide)
  refine s_callV (As := [.int (nI 47)]) (rest := []) (C := RX3) (T := TX3) (N := 18) (n := 1) F hW (k_X3_takes g l σ2 m A _ _ _ _ n p 47 tw11 rfl rfl (by omega) (by omega) hT (by decide)) (f3) rfl q2783 q2785 qs65 q79 q2786 rfl (by decide +kernel) rfl ⟨⟨Nat.le_of_ble_eq_true rfl, Nat.le_of_ble_eq_true rfl⟩, ⟨(Nat.le_of_ble_eq_true rfl), (Nat.le_of_ble_eq_true rfl)⟩⟩ (Nat.le_of_ble_eq_true rfl) hl.1 rfl dX3_isSet_10 cX_no (fun r12 σ12 H locs hp12 hW => ?_)
  obtain ⟨rfl, tv12, fv12⟩ := hp12
  refine W.eq (g2 := F0 m_ 13 ls (.int (bI (tk (ar 6) n p 47)) :: [])) rfl ?_
  obtain ⟨t0_13, -, ta0_13, ta1_13, ta2_13, ta3_13, ta4_13, ta5_13, ta6_13, ta7_13, -, -⟩ := id tv12
  have fm_13 : Fm σ σ12 m A := (fm11).trans fv12
  have tw_13 : IsTw g σ12 m A (va_up (va_up iv 10 (nI n)) 11 (nI (tkE (ar 6) n p 47))) wd (va_up ar 7 (va_up (ar 7) 2 0)) rb := ⟨t0_13, tb0, ta0_13, ta1_13, ta2_13, ta3_13, ta4_13, ta5_13, ta6_13, ta7_13, tbb, tii⟩
  refine b_if_ne (b := (tk (ar 6) n p 47)) (tgt := 18) F dX3_isSet_13 (by decide) (fun c_13 => ?_) (fun c_13 => ?_)
  · have hp1 := tk_lt c_13
    have tw_14 : IsTw g σ12 m A (va_up (va_up iv 10 (nI n)) 11 (nI (p + 1))) wd (va_up ar 7 (va_up (ar 7) 2 0)) rb := by
      rw [show p + 1 = tkE (ar 6) n p 47 by rw [tkE, if_pos c_13]]
      exact ⟨t0_13, tb0, ta0_13, ta1_13, ta2_13, ta3_13, ta4_13, ta5_13, ta6_13, ta7_13, tbb, tii⟩
    obtain ⟨t0_14, -, ta0_14, ta1_14, ta2_14, ta3_14, ta4_14, ta5_14, ta6_14, ta7_14, -, -⟩ := id tw_14
    refine lv_bipush (v := (nI 97)) F.x F.cd dX3_isSet_18 (by decide) ?_
    refine lv_istore_n (lv' := [(1, .int (nI 97)), (0, .ref m)]) F.x F.cd dX3_isSet_20 rfl hl (by decide) rfl (fun ls hl => ?_)
    have tw_15 : IsTw g σ12 m A (va_up (va_up iv 10 (nI n)) 11 (nI (p + 1 + 0))) wd (va_up ar 7 (va_up (ar 7) 2 0)) rb := by
      rw [Nat.add_zero]
      exact ⟨t0_14, tb0, ta0_14, ta1_14, ta2_14, ta3_14, ta4_14, ta5_14, ta6_14, ta7_14, tbb, tii⟩
    obtain ⟨t0_15, -, ta0_15, ta1_15, ta2_15, ta3_15, ta4_15, ta5_15, ta6_15, ta7_15, -, -⟩ := id tw_15
    have loop21 : ∀ (nj : Nat) (j : Nat) (σj : Sto) (le acc : Nat), j + nj = n - (p + 1) → IsTw g σj m A (va_up (va_up iv 10 (nI n)) 11 (nI (p + 1 + j))) wd (va_up ar 7 (va_up (ar 7) 2 acc)) rb → Fm σ σj m A → (97 ≤ le ∧ le ≤ 105) → (seE (ar 6) n nj (p + 1 + j) le = seE (ar 6) n (n - (p + 1)) (p + 1) 97) → (seV (ar 6) n nj (p + 1 + j) le acc = seV (ar 6) n (n - (p + 1)) (p + 1) 97 0) → acc < 256 → ∀ (H : Heap) (locs : List Loc) (ls : Array Slot), Hl g σj H locs → lv_has ls 2 [(0, .ref m), (1, .int (nI le))] → W p_ l e_ ({ frames := 1, cells := 0, slots := 0, locals := 22 } : Room) s_ m_ args_ below_ meth_ c_ H locs 0 0 Q (F0 m_ 21 ls ([])) := by
      intro nj
      induction nj with
      | zero =>
        intro j σj le acc hknj twj fmj hle hfe hfv hacc H locs ls hW hl
        obtain ⟨t0_k16, -, ta0_k16, ta1_k16, ta2_k16, ta3_k16, ta4_k16, ta5_k16, ta6_k16, ta7_k16, -, -⟩ := id twj
        refine lv_aload_n F.x F.cd dX3_isSet_21 rfl (lv_at hl 0 rfl) ?_
        refine s_get F hW (ci := 7) (C := RX3) (T := TX3) (N := 18) (v := .int (nI (p + 1 + j))) (t0_k16) rfl in_X3 11 (by decide) q2290 (fun _ h9 => h9) rfl dX3_isSet_22 ?_
        refine lv_aload_n F.x F.cd dX3_isSet_25 rfl (lv_at hl 0 rfl) ?_
        refine s_get F hW (ci := 7) (C := RX3) (T := TX3) (N := 18) (v := .int (nI n)) (t0_k16) rfl in_X3 10 (by decide) q2289 (fun _ h9 => h9) rfl dX3_isSet_26 ?_
        refine n_icmp_ge (a := p + 1 + j) (b := n) (tgt := 96) F (by omega) (by omega) dX3_isSet_29 (by decide) (fun c_29 => ?_) (fun c_29 => ?_)
        · rw [seE] at hfe
          rw [seV] at hfv
          have tw_17 : IsTw g σj m A (va_up (va_up iv 10 (nI n)) 11 (nI (if tk (ar 6) n p 47 = true then seE (ar 6) n (n - (p + 1)) (p + 1) 97 else p))) wd (va_up ar 7 (va_up (ar 7) 2 (if tk (ar 6) n p 47 = true then seV (ar 6) n (n - (p + 1)) (p + 1) 97 0 else 0))) rb := by
            rw [if_pos c_13, if_pos c_13, ← hfe, ← hfv]
            exact ⟨t0_k16, tb0, ta0_k16, ta1_k16, ta2_k16, ta3_k16, ta4_k16, ta5_k16, ta6_k16, ta7_k16, tbb, tii⟩
          obtain ⟨t0_17, -, ta0_17, ta1_17, ta2_17, ta3_17, ta4_17, ta5_17, ta6_17, ta7_17, -, -⟩ := id tw_17
          refine lv_iconst (v := (nI 1)) F.x F.cd dX3_isSet_96 (by decide) ?_
          subst hQ
          exact s_reti (v := (nI 1)) F hW (by decide) (⟨by rw [c_13]; rfl, tw_17, fmj⟩) ⟨(Nat.le_of_ble_eq_true rfl), (Nat.le_of_ble_eq_true rfl)⟩ dX3_isSet_97
        · exact absurd c_29 (by omega)
      | succ nj ih21 =>
        intro j σj le acc hknj twj fmj hle hfe hfv hacc H locs ls hW hl
        obtain ⟨t0_k16, -, ta0_k16, ta1_k16, ta2_k16, ta3_k16, ta4_k16, ta5_k16, ta6_k16, ta7_k16, -, -⟩ := id twj
        refine lv_aload_n F.x F.cd dX3_isSet_21 rfl (lv_at hl 0 rfl) ?_
        refine s_get F hW (ci := 7) (C := RX3) (T := TX3) (N := 18) (v := .int (nI (p + 1 + j))) (t0_k16) rfl in_X3 11 (by decide) q2290 (fun _ h9 => h9) rfl dX3_isSet_22 ?_
        refine lv_aload_n F.x F.cd dX3_isSet_25 rfl (lv_at hl 0 rfl) ?_
        refine s_get F hW (ci := 7) (C := RX3) (T := TX3) (N := 18) (v := .int (nI n)) (t0_k16) rfl in_X3 10 (by decide) q2289 (fun _ h9 => h9) rfl dX3_isSet_26 ?_
        refine n_icmp_ge (a := p + 1 + j) (b := n) (tgt := 96) F (by omega) (by omega) dX3_isSet_29 (by decide) (fun c_29 => ?_) (fun c_29 => ?_)
        · exact absurd c_29 (by omega)
        · have hTp := hT (p + 1 + j) (by omega)
          refine lv_aload_n F.x F.cd dX3_isSet_32 rfl (lv_at hl 0 rfl) ?_
          refine s_get F hW (ci := 7) (C := RX3) (T := TX3) (N := 18) (v := .ref (A 6)) (t0_k16) rfl in_X3 9 (by decide) q2288 (fun _ h9 => h9) rfl dX3_isSet_33 ?_
          refine lv_aload_n F.x F.cd dX3_isSet_36 rfl (lv_at hl 0 rfl) ?_
          refine s_get F hW (ci := 7) (C := RX3) (T := TX3) (N := 18) (v := .int (nI (p + 1 + j))) (t0_k16) rfl in_X3 11 (by decide) q2290 (fun _ h9 => h9) rfl dX3_isSet_37 ?_
          refine n_cald (i := p + 1 + j) (n := 60) (f := (fun x9 => nI ((ar 6) x9))) (x := (nI ((ar 6) (p + 1 + j)))) F hW (ta6_k16) (by omega) (by omega) (rfl) dX3_isSet_40 ?_
          refine lv_iload_n F.x F.cd dX3_isSet_41 rfl (lv_at hl 1 rfl) ?_
          refine lv_bipush (v := (nI 104)) F.x F.cd dX3_isSet_42 (by decide) ?_
          refine s_callS (As := [.int (nI ((ar 6) (p + 1 + j))), .int (nI le), .int (nI 104)]) (rest := []) (n := 3) F hW (k_X3_in g l σj (nI ((ar 6) (p + 1 + j))) (nI le) (nI 104)) q2351 q2352 q79 q2353 (by decide +kernel) rfl ⟨⟨Nat.le_of_ble_eq_true rfl, Nat.le_of_ble_eq_true rfl⟩, ⟨(Nat.le_of_ble_eq_true rfl), (Nat.le_of_ble_eq_true rfl)⟩⟩ (Nat.le_of_ble_eq_true rfl) hl.1 rfl dX3_isSet_44 cX_no (fun r18 σ18 H locs hp18 hW => ?_)
          obtain ⟨rfl, hs18⟩ := hp18
          rw [hs18] at hW
          refine W.eq (g2 := F0 m_ 47 ls (.int (bI (btw (nI ((ar 6) (p + 1 + j))) (nI le) (nI 104))) :: [])) rfl ?_
          refine W.eq (g2 := F0 m_ 47 ls (.int (bI (decide (le ≤ ar 6 (p + 1 + j) ∧ ar 6 (p + 1 + j) ≤ 104))) :: [])) (by rw [btwN (by omega) (by omega) (by decide)]) ?_
          refine b_if_eq (b := (decide (le ≤ ar 6 (p + 1 + j) ∧ ar 6 (p + 1 + j) ≤ 104))) (tgt := 96) F dX3_isSet_47 (by decide) (fun c_47 => ?_) (fun c_47 => ?_)
          · have h9d : ¬ (p + 1 + j < n ∧ le ≤ ar 6 (p + 1 + j) ∧ ar 6 (p + 1 + j) ≤ 104) := fun h9 => absurd (decide_eq_true h9.2) (by rw [c_47]; decide)
            rw [seE_f h9d] at hfe
            rw [seV_f h9d] at hfv
            have tw_19 : IsTw g σj m A (va_up (va_up iv 10 (nI n)) 11 (nI (if tk (ar 6) n p 47 = true then seE (ar 6) n (n - (p + 1)) (p + 1) 97 else p))) wd (va_up ar 7 (va_up (ar 7) 2 (if tk (ar 6) n p 47 = true then seV (ar 6) n (n - (p + 1)) (p + 1) 97 0 else 0))) rb := by
              rw [if_pos c_13, if_pos c_13, ← hfe, ← hfv]
              exact ⟨t0_k16, tb0, ta0_k16, ta1_k16, ta2_k16, ta3_k16, ta4_k16, ta5_k16, ta6_k16, ta7_k16, tbb, tii⟩
            obtain ⟨t0_19, -, ta0_19, ta1_19, ta2_19, ta3_19, ta4_19, ta5_19, ta6_19, ta7_19, -, -⟩ := id tw_19
            refine lv_iconst (v := (nI 1)) F.x F.cd dX3_isSet_96 (by decide) ?_
            subst hQ
            exact s_reti (v := (nI 1)) F hW (by decide) (⟨by rw [c_13]; rfl, tw_19, fmj⟩) ⟨(Nat.le_of_ble_eq_true rfl), (Nat.le_of_ble_eq_true rfl)⟩ dX3_isSet_97
          · have h8d := of_decide_eq_true c_47
            have h9d : p + 1 + j < n ∧ le ≤ ar 6 (p + 1 + j) ∧ ar 6 (p + 1 + j) ≤ 104 := ⟨by omega, h8d⟩
            refine lv_aload_n F.x F.cd dX3_isSet_50 rfl (lv_at hl 0 rfl) ?_
            refine s_get F hW (ci := 7) (C := RX3) (T := TX3) (N := 18) (v := .ref (A 7)) (t0_k16) rfl in_X3 13 (by decide) q2292 (fun _ h9 => h9) rfl dX3_isSet_51 ?_
            refine lv_iconst (v := (nI 2)) F.x F.cd dX3_isSet_54 (by decide) ?_
            refine lv_dup2_11 F.x F.cd dX3_isSet_55 rfl rfl ?_
            refine n_iald (i := 2) (n := 3) (f := (fun x9 => nI ((va_up (ar 7) 2 acc) x9))) (x := (nI acc)) F hW (ta7_k16) (by omega) (by omega) (by show nI _ = nI _; rw [va_up_self]) dX3_isSet_56 ?_
            refine lv_iconst (v := (nI 1)) F.x F.cd dX3_isSet_57 (by decide) ?_
            refine lv_aload_n F.x F.cd dX3_isSet_58 rfl (lv_at hl 0 rfl) ?_
            refine s_get F hW (ci := 7) (C := RX3) (T := TX3) (N := 18) (v := .ref (A 6)) (t0_k16) rfl in_X3 9 (by decide) q2288 (fun _ h9 => h9) rfl dX3_isSet_59 ?_
            refine lv_aload_n F.x F.cd dX3_isSet_62 rfl (lv_at hl 0 rfl) ?_
            refine s_get F hW (ci := 7) (C := RX3) (T := TX3) (N := 18) (v := .int (nI (p + 1 + j))) (t0_k16) rfl in_X3 11 (by decide) q2290 (fun _ h9 => h9) rfl dX3_isSet_63 ?_
            refine n_cald (i := p + 1 + j) (n := 60) (f := (fun x9 => nI ((ar 6) x9))) (x := (nI ((ar 6) (p + 1 + j)))) F hW (ta6_k16) (by omega) (by omega) (rfl) dX3_isSet_66 ?_
            refine lv_bipush (v := (nI 97)) F.x F.cd dX3_isSet_67 (by decide) ?_
            refine a_isub (v := (nI (ar 6 (p + 1 + j) - 97))) F (pk_sub (by omega)) dX3_isSet_69 ?_
            refine a_ishl (v := (nI (2 ^ (ar 6 (p + 1 + j) - 97)))) F (sh1 _ (by omega)) dX3_isSet_70 ?_
            refine a_ior (v := (nI (acc ||| 2 ^ (ar 6 (p + 1 + j) - 97)))) F (nI_or _ _) dX3_isSet_71 ?_
            refine n_iastN (i := 2) F hW (ta7_k16) (tbb 7 (by decide)) (by omega) (by omega) dX3_isSet_72 (fun H locs hW => ?_)
            obtain ⟨σ20, hσ20⟩ : ∃ z, z = sset σj (A 7) (eI g 0 3 (fun x9 => nI ((va_up (va_up (ar 7) 2 acc) 2 (acc ||| 2 ^ (ar 6 (p + 1 + j) - 97))) x9))) := ⟨_, rfl⟩
            have hW : Hl g σ20 H locs := by rw [hσ20]; exact hW
            have w20 : σ20 (A 7) = some (eI g 0 3 (fun x9 => nI ((va_up (va_up (ar 7) 2 acc) 2 (acc ||| 2 ^ (ar 6 (p + 1 + j) - 97))) x9))) := by rw [hσ20]; exact sset_eq
            have f21 : σ20 m = some (.inr (7, [.ref (A 0), .ref (A 1), .ref (A 2), .int (iv 3), .ref (A 3), .int (iv 5), .ref (A 4), .ref (A 5), .int (iv 8), .ref (A 6), .int (nI n), .int (nI (p + 1 + j)), .ref wd, .ref (A 7), .int (iv 14), .int (iv 15), .int (iv 16), .int (iv 17)])) := by rw [hσ20, sset_ne (sto_ne ta7_k16 t0_k16 (by simp))]; exact t0_k16
            have f22 : σ20 (A 0) = some (eI g 0 114 (fun x9 => nI ((ar 0) x9))) := by rw [hσ20, sset_ne (fun q9 => absurd (tii 0 7 (by decide) (by decide) q9) (by decide))]; exact ta0_k16
            have f23 : σ20 (A 1) = some (eI g 0 114 (fun x9 => nI ((ar 1) x9))) := by rw [hσ20, sset_ne (fun q9 => absurd (tii 1 7 (by decide) (by decide) q9) (by decide))]; exact ta1_k16
            have f24 : σ20 (A 2) = some (eI g 0 912 (fun x9 => nI ((ar 2) x9))) := by rw [hσ20, sset_ne (fun q9 => absurd (tii 2 7 (by decide) (by decide) q9) (by decide))]; exact ta2_k16
            have f25 : σ20 (A 3) = some (eI g 0 114 (fun x9 => nI ((ar 3) x9))) := by rw [hσ20, sset_ne (fun q9 => absurd (tii 3 7 (by decide) (by decide) q9) (by decide))]; exact ta3_k16
            have f26 : σ20 (A 4) = some (eI g 2 2048 (fun x9 => bI (rb x9))) := by rw [hσ20, sset_ne (fun q9 => absurd (tii 4 7 (by decide) (by decide) q9) (by decide))]; exact ta4_k16
            have f27 : σ20 (A 5) = some (eI g 3 60 (fun x9 => nI ((ar 5) x9))) := by rw [hσ20, sset_ne (fun q9 => absurd (tii 5 7 (by decide) (by decide) q9) (by decide))]; exact ta5_k16
            have f28 : σ20 (A 6) = some (eI g 3 60 (fun x9 => nI ((ar 6) x9))) := by rw [hσ20, sset_ne (fun q9 => absurd (tii 6 7 (by decide) (by decide) q9) (by decide))]; exact ta6_k16
            refine lv_aload_n F.x F.cd dX3_isSet_73 rfl (lv_at hl 0 rfl) ?_
            refine s_get F hW (ci := 7) (C := RX3) (T := TX3) (N := 18) (v := .ref (A 6)) (f21) rfl in_X3 9 (by decide) q2288 (fun _ h9 => h9) rfl dX3_isSet_74 ?_
            refine lv_aload_n F.x F.cd dX3_isSet_77 rfl (lv_at hl 0 rfl) ?_
            refine lv_dup F.x F.cd dX3_isSet_78 rfl ?_
            refine s_get F hW (ci := 7) (C := RX3) (T := TX3) (N := 18) (v := .int (nI (p + 1 + j))) (f21) rfl in_X3 11 (by decide) q2290 (fun _ h9 => h9) rfl dX3_isSet_79 ?_
            refine lv_dup_x1 F.x F.cd dX3_isSet_82 rfl rfl ?_
            refine lv_iconst (v := (nI 1)) F.x F.cd dX3_isSet_83 (by decide) ?_
            refine a_iadd (v := (nI (p + 1 + j + 1))) F (nI_add _ _) dX3_isSet_84 ?_
            refine s_put F hW (ci := 7) (C := RX3) (T := TX3) (N := 18) (v := .int (nI (p + 1 + j + 1))) (ty := .int) (f21) (tb0) rfl in_X3 tyX3_ok nmX3 11 (by decide) q2290 (fun _ h9 => h9) rfl (by decide +kernel) rfl rfl (Nat.le_of_ble_eq_true rfl) dX3_isSet_85 (fun H locs hW => ?_)
            obtain ⟨σ30, hσ30⟩ : ∃ z, z = sset σ20 m (.inr (7, [.ref (A 0), .ref (A 1), .ref (A 2), .int (iv 3), .ref (A 3), .int (iv 5), .ref (A 4), .ref (A 5), .int (iv 8), .ref (A 6), .int (nI n), .int (nI (p + 1 + j + 1)), .ref wd, .ref (A 7), .int (iv 14), .int (iv 15), .int (iv 16), .int (iv 17)])) := ⟨_, rfl⟩
            have hW : Hl g σ30 H locs := by rw [hσ30]; exact hW
            have w30 : σ30 m = some (.inr (7, [.ref (A 0), .ref (A 1), .ref (A 2), .int (iv 3), .ref (A 3), .int (iv 5), .ref (A 4), .ref (A 5), .int (iv 8), .ref (A 6), .int (nI n), .int (nI (p + 1 + j + 1)), .ref wd, .ref (A 7), .int (iv 14), .int (iv 15), .int (iv 16), .int (iv 17)])) := by rw [hσ30]; exact sset_eq
            have f31 : σ30 (A 0) = some (eI g 0 114 (fun x9 => nI ((ar 0) x9))) := by rw [hσ30, sset_ne (sto_ne f21 f22 (by simp))]; exact f22
            have f32 : σ30 (A 1) = some (eI g 0 114 (fun x9 => nI ((ar 1) x9))) := by rw [hσ30, sset_ne (sto_ne f21 f23 (by simp))]; exact f23
            have f33 : σ30 (A 2) = some (eI g 0 912 (fun x9 => nI ((ar 2) x9))) := by rw [hσ30, sset_ne (sto_ne f21 f24 (by simp))]; exact f24
            have f34 : σ30 (A 3) = some (eI g 0 114 (fun x9 => nI ((ar 3) x9))) := by rw [hσ30, sset_ne (sto_ne f21 f25 (by simp))]; exact f25
            have f35 : σ30 (A 4) = some (eI g 2 2048 (fun x9 => bI (rb x9))) := by rw [hσ30, sset_ne (sto_ne f21 f26 (by simp))]; exact f26
            have f36 : σ30 (A 5) = some (eI g 3 60 (fun x9 => nI ((ar 5) x9))) := by rw [hσ30, sset_ne (sto_ne f21 f27 (by simp))]; exact f27
            have f37 : σ30 (A 6) = some (eI g 3 60 (fun x9 => nI ((ar 6) x9))) := by rw [hσ30, sset_ne (sto_ne f21 f28 (by simp))]; exact f28
            have f38 : σ30 (A 7) = some (eI g 0 3 (fun x9 => nI ((va_up (va_up (ar 7) 2 acc) 2 (acc ||| 2 ^ (ar 6 (p + 1 + j) - 97))) x9))) := by rw [hσ30, sset_ne (sto_ne f21 w20 (by simp))]; exact w20
            refine n_cald (i := p + 1 + j) (n := 60) (f := (fun x9 => nI ((ar 6) x9))) (x := (nI ((ar 6) (p + 1 + j)))) F hW (f37) (by omega) (by omega) (rfl) dX3_isSet_88 ?_
            refine lv_iconst (v := (nI 1)) F.x F.cd dX3_isSet_89 (by decide) ?_
            refine a_iadd (v := (nI ((ar 6) (p + 1 + j) + 1))) F (nI_add _ _) dX3_isSet_90 ?_
            refine lv_i2c (v := (nI ((ar 6) (p + 1 + j) + 1))) F.x F.cd dX3_isSet_91 (i2c_nI _ (by omega)) ?_
            refine lv_istore_n (lv' := [(1, .int (nI ((ar 6) (p + 1 + j) + 1))), (0, .ref m)]) F.x F.cd dX3_isSet_92 rfl hl (by decide) rfl (fun ls hl => ?_)
            have tw39 : IsTw g σ30 m A (va_up (va_up iv 10 (nI n)) 11 (nI (p + 1 + j + 1))) wd (va_up ar 7 (va_up (va_up (ar 7) 2 acc) 2 (acc ||| 2 ^ (ar 6 (p + 1 + j) - 97)))) rb := ⟨w30, tb0, f31, f32, f33, f34, f35, f36, f37, f38, tbb, tii⟩
            have fm39 : Fm σ σ30 m A := by rw [hσ30, hσ20]; exact ((fmj).setA 7 (by decide)).setM
            have tw_40 : IsTw g σ30 m A (va_up (va_up iv 10 (nI n)) 11 (nI (p + 1 + (j + 1)))) wd (va_up ar 7 (va_up (ar 7) 2 (acc ||| 2 ^ (ar 6 (p + 1 + j) - 97)))) rb := by
              rw [← Nat.add_assoc, ← va_up_up (f := ar 7) (i := 2) (x := acc)]
              exact ⟨w30, tb0, f31, f32, f33, f34, f35, f36, f37, f38, tbb, tii⟩
            obtain ⟨t0_40, -, ta0_40, ta1_40, ta2_40, ta3_40, ta4_40, ta5_40, ta6_40, ta7_40, -, -⟩ := id tw_40
            refine lv_goto (tgt := 21) F.x F.cd dX3_isSet_93 (by decide) ?_
            exact ih21 (j + 1) σ30 (ar 6 (p + 1 + j) + 1) (acc ||| 2 ^ (ar 6 (p + 1 + j) - 97)) (by omega) (tw_40) (fm39) (by have := h9d.2; omega) (by rw [seE_t h9d] at hfe; exact hfe) (by rw [seV_t h9d] at hfv; exact hfv) (or_lt8 hacc (pow_lt8 (by omega))) H locs ls hW (lv_sub hl [1, 0] rfl)
    exact loop21 (n - (p + 1)) 0 _ 97 0 (by omega) (tw_15) (fm_13) (by decide) (rfl) (rfl) (by decide) H locs ls hW (lv_sub hl [1, 0] rfl)
  · refine lv_iconst (v := (nI 0)) F.x F.cd dX3_isSet_16 (by decide) ?_
    have tw_42 : IsTw g σ12 m A (va_up (va_up iv 10 (nI n)) 11 (nI (if tk (ar 6) n p 47 = true then seE (ar 6) n (n - (p + 1)) (p + 1) 97 else p))) wd (va_up ar 7 (va_up (ar 7) 2 (if tk (ar 6) n p 47 = true then seV (ar 6) n (n - (p + 1)) (p + 1) 97 0 else 0))) rb := by
      rw [if_neg (by rw [c_13]; decide), if_neg (by rw [c_13]; decide), ← tkE_f c_13]
      exact ⟨t0_13, tb0, ta0_13, ta1_13, ta2_13, ta3_13, ta4_13, ta5_13, ta6_13, ta7_13, tbb, tii⟩
    obtain ⟨t0_42, -, ta0_42, ta1_42, ta2_42, ta3_42, ta4_42, ta5_42, ta6_42, ta7_42, -, -⟩ := id tw_42
    subst hQ
    exact s_reti (v := (nI 0)) F hW (by decide) (⟨by rw [c_13]; rfl, tw_42, fm_13⟩) ⟨(Nat.le_of_ble_eq_true rfl), (Nat.le_of_ble_eq_true rfl)⟩ dX3_isSet_17
