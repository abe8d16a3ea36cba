/-! ===== the twin: more public methods ===== -/
set_option maxRecDepth 100000
def hasB (s c : Nat) : Bool := decide (((nI s >>> ((nI c - nI 97) &&& 31)) &&& nI 1) = nI 1)
theorem aheadT_iff {v : Nat → Nat} {j k : Nat} : aheadT v j k = true ↔ (tK v k < tK v j ∨ (tK v j = tK v k ∧ pops (tI v j) < pops (tI v k))) ∨ ((tK v j = tK v k ∧ pops (tI v j) = pops (tI v k)) ∧ j < k) := by
  simp [aheadT, ahead, tied]
set_option maxHeartbeats 4000000 in
theorem k_X3_undo (g : Gh) (l : Launch) (σ : Sto) (m : Nat) (A : Nat → Nat) (iv : Nat → Int32) (wd : Nat) (ar : Nat → Nat → Nat) (rb : Nat → Bool) (u : Nat) (v' : Nat → Nat) (hw : IsTw g σ m A iv wd ar rb) (hu : iv 3 = nI u) (hu8 : u ≤ 8) (hv : 0 < u → ∀ j, j < 114 → ar 2 (114 * (u - 1) + j) = v' j) : Ct g l yX3_undo cX3_undo 2 (some .int) ({ frames := 1, cells := 0, slots := 0, locals := 21 } : Room) [.ref m] σ (fun r σ' => (u = 0 ∧ r = some (.int (nI 0)) ∧ IsTw g σ' m A (va_up iv 17 (nI 1)) wd ar rb ∧ Fm σ σ' m A) ∨ (0 < u ∧ r = some (.int (nI (u - 1))) ∧ IsTw g σ' m A (va_up (va_up iv 3 (nI (u - 1))) 17 (nI 0)) wd (va_up ar 0 v') rb ∧ Fm σ σ' m A)) (nox) := by
  refine Ct.body (by decide) (Nat.le_of_ble_eq_true rfl) ?_
  intro p_ e_ s_ m_ args_ below_ meth_ c_ ls H locs Q F hW hl hQ
  have hl : lv_has ls 2 [(0, .ref m)] := hl
  obtain ⟨t0, tb0, ta0, ta1, ta2, ta3, ta4, ta5, ta6, ta7, tbb, tii⟩ := id hw
  refine lv_aload_n F.x F.cd dX3_undo_0 rfl (lv_at hl 0 rfl) ?_
  refine lv_iconst (v := (nI 0)) F.x F.cd dX3_undo_1 (by decide) ?_
  refine s_put F hW (ci := 7) (C := RX3) (T := TX3) (N := 18) (v := .int (nI 0)) (ty := .int) (t0) (tb0) rfl in_X3 tyX3_ok nmX3 17 (by decide) q2296 (fun _ h9 => h9) rfl (by decide +kernel) rfl rfl (Nat.le_of_ble_eq_true rfl) dX3_undo_2 (fun H locs hW => ?_)
  obtain ⟨σ2, hσ2⟩ : ∃ z, z = sset σ m (.inr (7, [.ref (A 0), .ref (A 1), .ref (A 2), .int (iv 3), .ref (A 3), .int (iv 5), .ref (A 4), .ref (A 5), .int (iv 8), .ref (A 6), .int (iv 10), .int (iv 11), .ref wd, .ref (A 7), .int (iv 14), .int (iv 15), .int (iv 16), .int (nI 0)])) := ⟨_, rfl⟩
  have hW : Hl g σ2 H locs := by rw [hσ2]; exact hW
  have w2 : σ2 m = some (.inr (7, [.ref (A 0), .ref (A 1), .ref (A 2), .int (iv 3), .ref (A 3), .int (iv 5), .ref (A 4), .ref (A 5), .int (iv 8), .ref (A 6), .int (iv 10), .int (iv 11), .ref wd, .ref (A 7), .int (iv 14), .int (iv 15), .int (iv 16), .int (nI 0)])) := by rw [hσ2]; exact sset_eq
  have f3 : σ2 (A 0) = some (eI g 0 114 (fun x9 => nI ((ar 0) x9))) := by rw [hσ2, sset_ne (sto_ne t0 ta0 (by simp))]; exact ta0
  have f4 : σ2 (A 1) = some (eI g 0 114 (fun x9 => nI ((ar 1) x9))) := by rw [hσ2, sset_ne (sto_ne t0 ta1 (by simp))]; exact ta1
  have f5 : σ2 (A 2) = some (eI g 0 912 (fun x9 => nI ((ar 2) x9))) := by rw [hσ2, sset_ne (sto_ne t0 ta2 (by simp))]; exact ta2
  have f6 : σ2 (A 3) = some (eI g 0 114 (fun x9 => nI ((ar 3) x9))) := by rw [hσ2, sset_ne (sto_ne t0 ta3 (by simp))]; exact ta3
  have f7 : σ2 (A 4) = some (eI g 2 2048 (fun x9 => bI (rb x9))) := by rw [hσ2, sset_ne (sto_ne t0 ta4 (by simp))]; exact ta4
  have f8 : σ2 (A 5) = some (eI g 3 60 (fun x9 => nI ((ar 5) x9))) := by rw [hσ2, sset_ne (sto_ne t0 ta5 (by simp))]; exact ta5
  have f9 : σ2 (A 6) = some (eI g 3 60 (fun x9 => nI ((ar 6) x9))) := by rw [hσ2, sset_ne (sto_ne t0 ta6 (by simp))]; exact ta6
  have f10 : σ2 (A 7) = some (eI g 0 3 (fun x9 => nI ((ar 7) x9))) := by rw [hσ2, sset_ne (sto_ne t0 ta7 (by simp))]; exact ta7
  have tw11 : IsTw g σ2 m A (va_up iv 17 (nI 0)) wd ar rb := ⟨w2, tb0, f3, f4, f5, f6, f7, f8, f9, f10, tbb, tii⟩
  have fm11 : Fm σ σ2 m A := by rw [hσ2]; exact (Fm.refl).setM
  have tw_12 : IsTw g σ2 m A (va_up (va_up iv 3 (nI u)) 17 (nI 0)) wd ar rb := by
    rw [← hu]
    exact ⟨w2, tb0, f3, f4, f5, f6, f7, f8, f9, f10, tbb, tii⟩
  obtain ⟨t0_12, -, ta0_12, ta1_12, ta2_12, ta3_12, ta4_12, ta5_12, ta6_12, ta7_12, -, -⟩ := id tw_12
  refine lv_aload_n F.x F.cd dX3_undo_5 rfl (lv_at hl 0 rfl) ?_
  refine s_get F hW (ci := 7) (C := RX3) (T := TX3) (N := 18) (v := .int (nI u)) (t0_12) rfl in_X3 3 (by decide) q2282 (fun _ h9 => h9) rfl dX3_undo_6 ?_
  refine n_if_ne (a := u) (tgt := 18) F (by omega) dX3_undo_9 (by decide) (fun c_9 => ?_) (fun c_9 => ?_)
  · refine lv_aload_n F.x F.cd dX3_undo_18 rfl (lv_at hl 0 rfl) ?_
    refine lv_dup F.x F.cd dX3_undo_19 rfl ?_
    refine s_get F hW (ci := 7) (C := RX3) (T := TX3) (N := 18) (v := .int (nI u)) (t0_12) rfl in_X3 3 (by decide) q2282 (fun _ h9 => h9) rfl dX3_undo_20 ?_
    refine lv_iconst (v := (nI 1)) F.x F.cd dX3_undo_23 (by decide) ?_
    refine a_isub (v := (nI (u - 1))) F (pk_sub (by omega)) dX3_undo_24 ?_
    refine s_put F hW (ci := 7) (C := RX3) (T := TX3) (N := 18) (v := .int (nI (u - 1))) (ty := .int) (t0_12) (tb0) rfl in_X3 tyX3_ok nmX3 3 (by decide) q2282 (fun _ h9 => h9) rfl (by decide +kernel) rfl rfl (Nat.le_of_ble_eq_true rfl) dX3_undo_25 (fun H locs hW => ?_)
    obtain ⟨σ14, hσ14⟩ : ∃ z, z = sset σ2 m (.inr (7, [.ref (A 0), .ref (A 1), .ref (A 2), .int (nI (u - 1)), .ref (A 3), .int (iv 5), .ref (A 4), .ref (A 5), .int (iv 8), .ref (A 6), .int (iv 10), .int (iv 11), .ref wd, .ref (A 7), .int (iv 14), .int (iv 15), .int (iv 16), .int (nI 0)])) := ⟨_, rfl⟩
    have hW : Hl g σ14 H locs := by rw [hσ14]; exact hW
    have w14 : σ14 m = some (.inr (7, [.ref (A 0), .ref (A 1), .ref (A 2), .int (nI (u - 1)), .ref (A 3), .int (iv 5), .ref (A 4), .ref (A 5), .int (iv 8), .ref (A 6), .int (iv 10), .int (iv 11), .ref wd, .ref (A 7), .int (iv 14), .int (iv 15), .int (iv 16), .int (nI 0)])) := by rw [hσ14]; exact sset_eq
    have f15 : σ14 (A 0) = some (eI g 0 114 (fun x9 => nI ((ar 0) x9))) := by rw [hσ14, sset_ne (sto_ne t0_12 ta0_12 (by simp))]; exact ta0_12
    have f16 : σ14 (A 1) = some (eI g 0 114 (fun x9 => nI ((ar 1) x9))) := by rw [hσ14, sset_ne (sto_ne t0_12 ta1_12 (by simp))]; exact ta1_12
    have f17 : σ14 (A 2) = some (eI g 0 912 (fun x9 => nI ((ar 2) x9))) := by rw [hσ14, sset_ne (sto_ne t0_12 ta2_12 (by simp))]; exact ta2_12
    have f18 : σ14 (A 3) = some (eI g 0 114 (fun x9 => nI ((ar 3) x9))) := by rw [hσ14, sset_ne (sto_ne t0_12 ta3_12 (by simp))]; exact ta3_12
    have f19 : σ14 (A 4) = some (eI g 2 2048 (fun x9 => bI (rb x9))) := by rw [hσ14, sset_ne (sto_ne t0_12 ta4_12 (by simp))]; exact ta4_12
    have f20 : σ14 (A 5) = some (eI g 3 60 (fun x9 => nI ((ar 5) x9))) := by rw [hσ14, sset_ne (sto_ne t0_12 ta5_12 (by simp))]; exact ta5_12
    have f21 : σ14 (A 6) = some (eI g 3 60 (fun x9 => nI ((ar 6) x9))) := by rw [hσ14, sset_ne (sto_ne t0_12 ta6_12 (by simp))]; exact ta6_12
    have f22 : σ14 (A 7) = some (eI g 0 3 (fun x9 => nI ((ar 7) x9))) := by rw [hσ14, sset_ne (sto_ne t0_12 ta7_12 (by simp))]; exact ta7_12
    refine lv_iconst (v := (nI 0)) F.x F.cd dX3_undo_28 (by decide) ?_
    refine lv_istore_n (lv' := [(1, .int (nI 0)), (0, .ref m)]) F.x F.cd dX3_undo_29 rfl hl (by decide) rfl (fun ls hl => ?_)
    have tw23 : IsTw g σ14 m A (va_up (va_up iv 3 (nI (u - 1))) 17 (nI 0)) wd ar rb := ⟨w14, tb0, f15, f16, f17, f18, f19, f20, f21, f22, tbb, tii⟩
    have fm23 : Fm σ σ14 m A := by rw [hσ14]; exact (fm11).setM
    have loop30 : ∀ (nk : Nat) (k : Nat) (σk : Sto), k + nk = 114 → IsTw g σk m A (va_up (va_up iv 3 (nI (u - 1))) 17 (nI 0)) wd (va_up ar 0 (cpT (fun z9 => ar 2 (114 * (u - 1) + z9)) (ar 0) 0 k)) rb → Fm σ σk m A → ∀ (H : Heap) (locs : List Loc) (ls : Array Slot), Hl g σk H locs → lv_has ls 2 [(0, .ref m), (1, .int (nI k))] → W p_ l e_ ({ frames := 1, cells := 0, slots := 0, locals := 21 } : Room) s_ m_ args_ below_ meth_ c_ H locs 0 0 Q (F0 m_ 30 ls ([])) := by
      intro nk
      induction nk with
      | zero =>
        intro k σk hknk twk fmk H locs ls hW hl
        obtain ⟨t0_k24, -, ta0_k24, ta1_k24, ta2_k24, ta3_k24, ta4_k24, ta5_k24, ta6_k24, ta7_k24, -, -⟩ := id twk
        refine lv_iload_n F.x F.cd dX3_undo_30 rfl (lv_at hl 1 rfl) ?_
        refine lv_bipush (v := (nI 114)) F.x F.cd dX3_undo_31 (by decide) ?_
        refine n_icmp_ge (a := k) (b := 114) (tgt := 62) F (by omega) (by omega) dX3_undo_33 (by decide) (fun c_33 => ?_) (fun c_33 => ?_)
        · obtain ⟨σ25, hW, tv25, fv25⟩ := IsTw.norm0 twk hW v' (fun j hj => by rw [show k = 114 by omega, va_up_self, cpT_e hj]; exact hv (by omega) j hj)
          obtain ⟨t0_26, -, ta0_26, ta1_26, ta2_26, ta3_26, ta4_26, ta5_26, ta6_26, ta7_26, -, -⟩ := id tv25
          have fm_26 : Fm σ σ25 m A := (fmk).trans fv25
          have tw_26 : IsTw g σ25 m A (va_up (va_up iv 3 (nI (u - 1))) 17 (nI 0)) wd (va_up ar 0 v') rb := ⟨t0_26, tb0, ta0_26, ta1_26, ta2_26, ta3_26, ta4_26, ta5_26, ta6_26, ta7_26, tbb, tii⟩
          refine lv_aload_n F.x F.cd dX3_undo_62 rfl (lv_at hl 0 rfl) ?_
          refine s_get F hW (ci := 7) (C := RX3) (T := TX3) (N := 18) (v := .int (nI (u - 1))) (t0_26) rfl in_X3 3 (by decide) q2282 (fun _ h9 => h9) rfl dX3_undo_63 ?_
          subst hQ
          exact s_reti (v := (nI (u - 1))) F hW rfl (Or.inr ⟨by omega, rfl, tw_26, fm_26⟩) ⟨(Nat.le_of_ble_eq_true rfl), (Nat.le_of_ble_eq_true rfl)⟩ dX3_undo_66
        · exact absurd c_33 (by omega)
      | succ nk ih30 =>
        intro k σk hknk twk fmk H locs ls hW hl
        obtain ⟨t0_k24, -, ta0_k24, ta1_k24, ta2_k24, ta3_k24, ta4_k24, ta5_k24, ta6_k24, ta7_k24, -, -⟩ := id twk
        refine lv_iload_n F.x F.cd dX3_undo_30 rfl (lv_at hl 1 rfl) ?_
        refine lv_bipush (v := (nI 114)) F.x F.cd dX3_undo_31 (by decide) ?_
        refine n_icmp_ge (a := k) (b := 114) (tgt := 62) F (by omega) (by omega) dX3_undo_33 (by decide) (fun c_33 => ?_) (fun c_33 => ?_)
        · exact absurd c_33 (by omega)
        · refine lv_aload_n F.x F.cd dX3_undo_36 rfl (lv_at hl 0 rfl) ?_
          refine s_get F hW (ci := 7) (C := RX3) (T := TX3) (N := 18) (v := .ref (A 0)) (t0_k24) rfl in_X3 0 (by decide) q2279 (fun _ h9 => h9) rfl dX3_undo_37 ?_
          refine lv_iload_n F.x F.cd dX3_undo_40 rfl (lv_at hl 1 rfl) ?_
          refine lv_aload_n F.x F.cd dX3_undo_41 rfl (lv_at hl 0 rfl) ?_
          refine s_get F hW (ci := 7) (C := RX3) (T := TX3) (N := 18) (v := .ref (A 2)) (t0_k24) rfl in_X3 2 (by decide) q2281 (fun _ h9 => h9) rfl dX3_undo_42 ?_
          refine lv_bipush (v := (nI 114)) F.x F.cd dX3_undo_45 (by decide) ?_
          refine lv_aload_n F.x F.cd dX3_undo_47 rfl (lv_at hl 0 rfl) ?_
          refine s_get F hW (ci := 7) (C := RX3) (T := TX3) (N := 18) (v := .int (nI (u - 1))) (t0_k24) rfl in_X3 3 (by decide) q2282 (fun _ h9 => h9) rfl dX3_undo_48 ?_
          refine a_imul (v := (nI (114 * (u - 1)))) F (pk_mul _ _) dX3_undo_51 ?_
          refine lv_iload_n F.x F.cd dX3_undo_52 rfl (lv_at hl 1 rfl) ?_
          refine a_iadd (v := (nI (114 * (u - 1) + k))) F (nI_add _ _) dX3_undo_53 ?_
          refine n_iald (i := 114 * (u - 1) + k) (n := 912) (f := (fun x9 => nI ((ar 2) x9))) (x := (nI ((ar 2) (114 * (u - 1) + k)))) F hW (ta2_k24) (by omega) (by omega) (rfl) dX3_undo_54 ?_
          refine n_iastN (i := k) F hW (ta0_k24) (tbb 0 (by decide)) (by omega) (by omega) dX3_undo_55 (fun H locs hW => ?_)
          obtain ⟨σ27, hσ27⟩ : ∃ z, z = sset σk (A 0) (eI g 0 114 (fun x9 => nI ((va_up (cpT (fun z9 => ar 2 (114 * (u - 1) + z9)) (ar 0) 0 k) k ((ar 2) (114 * (u - 1) + k))) x9))) := ⟨_, rfl⟩
          have hW : Hl g σ27 H locs := by rw [hσ27]; exact hW
          have w27 : σ27 (A 0) = some (eI g 0 114 (fun x9 => nI ((va_up (cpT (fun z9 => ar 2 (114 * (u - 1) + z9)) (ar 0) 0 k) k ((ar 2) (114 * (u - 1) + k))) x9))) := by rw [hσ27]; exact sset_eq
          have f28 : σ27 m = some (.inr (7, [.ref (A 0), .ref (A 1), .ref (A 2), .int (nI (u - 1)), .ref (A 3), .int (iv 5), .ref (A 4), .ref (A 5), .int (iv 8), .ref (A 6), .int (iv 10), .int (iv 11), .ref wd, .ref (A 7), .int (iv 14), .int (iv 15), .int (iv 16), .int (nI 0)])) := by rw [hσ27, sset_ne (sto_ne ta0_k24 t0_k24 (by simp))]; exact t0_k24
          have f29 : σ27 (A 1) = some (eI g 0 114 (fun x9 => nI ((ar 1) x9))) := by rw [hσ27, sset_ne (fun q9 => absurd (tii 1 0 (by decide) (by decide) q9) (by decide))]; exact ta1_k24
          have f30 : σ27 (A 2) = some (eI g 0 912 (fun x9 => nI ((ar 2) x9))) := by rw [hσ27, sset_ne (fun q9 => absurd (tii 2 0 (by decide) (by decide) q9) (by decide))]; exact ta2_k24
          have f31 : σ27 (A 3) = some (eI g 0 114 (fun x9 => nI ((ar 3) x9))) := by rw [hσ27, sset_ne (fun q9 => absurd (tii 3 0 (by decide) (by decide) q9) (by decide))]; exact ta3_k24
          have f32 : σ27 (A 4) = some (eI g 2 2048 (fun x9 => bI (rb x9))) := by rw [hσ27, sset_ne (fun q9 => absurd (tii 4 0 (by decide) (by decide) q9) (by decide))]; exact ta4_k24
          have f33 : σ27 (A 5) = some (eI g 3 60 (fun x9 => nI ((ar 5) x9))) := by rw [hσ27, sset_ne (fun q9 => absurd (tii 5 0 (by decide) (by decide) q9) (by decide))]; exact ta5_k24
          have f34 : σ27 (A 6) = some (eI g 3 60 (fun x9 => nI ((ar 6) x9))) := by rw [hσ27, sset_ne (fun q9 => absurd (tii 6 0 (by decide) (by decide) q9) (by decide))]; exact ta6_k24
          have f35 : σ27 (A 7) = some (eI g 0 3 (fun x9 => nI ((ar 7) x9))) := by rw [hσ27, sset_ne (fun q9 => absurd (tii 7 0 (by decide) (by decide) q9) (by decide))]; exact ta7_k24
          refine lv_iinc (k := 1) (v := (nI (k + 1))) (lv' := [(1, .int (nI (k + 1))), (0, .ref m)]) F.x F.cd dX3_undo_56 hl rfl (inc_nI k 1) (by decide) rfl (fun ls hl => ?_)
          refine lv_goto (tgt := 30) F.x F.cd dX3_undo_59 (by decide) ?_
          have tw36 : IsTw g σ27 m A (va_up (va_up iv 3 (nI (u - 1))) 17 (nI 0)) wd (va_up ar 0 (va_up (cpT (fun z9 => ar 2 (114 * (u - 1) + z9)) (ar 0) 0 k) k ((ar 2) (114 * (u - 1) + k)))) rb := ⟨f28, tb0, w27, f29, f30, f31, f32, f33, f34, f35, tbb, tii⟩
          have fm36 : Fm σ σ27 m A := by rw [hσ27]; exact (fmk).setA 0 (by decide)
          exact ih30 (k + 1) σ27 (by omega) (by rw [← cpT_s0]; exact tw36) (fm36) H locs ls hW (lv_sub hl [1, 0] rfl)
    exact loop30 (114) 0 _ (by omega) (by rw [cpT_0]; exact tw23) (fm23) H locs ls hW (lv_sub hl [1, 0] rfl)
  · refine lv_aload_n F.x F.cd dX3_undo_12 rfl (lv_at hl 0 rfl) ?_
    refine lv_iconst (v := (nI 1)) F.x F.cd dX3_undo_13 (by decide) ?_
    refine s_callV (As := [.int (nI 1)]) (rest := []) (C := RX3) (T := TX3) (N := 18) (n := 1) F hW (k_X3_raises g l σ2 m A _ _ _ _ (nI 1) tw_12 ) (t0_12) rfl q2362 q2364 qs37 q79 q2365 rfl (by decide +kernel) rfl ⟨⟨Nat.le_of_ble_eq_true rfl, Nat.le_of_ble_eq_true rfl⟩, ⟨(Nat.le_of_ble_eq_true rfl), (Nat.le_of_ble_eq_true rfl)⟩⟩ (Nat.le_of_ble_eq_true rfl) hl.1 rfl dX3_undo_14 cX_no (fun r38 σ38 H locs hp38 hW => ?_)
    obtain ⟨rfl, tv38, fv38⟩ := hp38
    refine W.eq (g2 := F0 m_ 17 ls (.int (nI 0) :: [])) rfl ?_
    obtain ⟨t0_39, -, ta0_39, ta1_39, ta2_39, ta3_39, ta4_39, ta5_39, ta6_39, ta7_39, -, -⟩ := id tv38
    have fm_39 : Fm σ σ38 m A := (fm11).trans fv38
    have tw_39 : IsTw g σ38 m A (va_up (va_up iv 3 (nI u)) 17 (nI 1)) wd ar rb := ⟨t0_39, tb0, ta0_39, ta1_39, ta2_39, ta3_39, ta4_39, ta5_39, ta6_39, ta7_39, tbb, tii⟩
    subst hQ
    exact s_reti (v := (nI 0)) F hW rfl (Or.inl ⟨c_9, rfl, (by have e9 := tw_39; rw [va_up_same hu] at e9; exact e9), fm_39⟩) ⟨(Nat.le_of_ble_eq_true rfl), (Nat.le_of_ble_eq_true rfl)⟩ dX3_undo_17
set_option maxHeartbeats 4000000 in
theorem k_X3_save (g : Gh) (l : Launch) (σ : Sto) (m : Nat) (A : Nat → Nat) (iv : Nat → Int32) (wd : Nat) (ar : Nat → Nat → Nat) (rb : Nat → Bool)  (hw : IsTw g σ m A iv wd ar rb)  : Ct g l yX3_save cX3_save 2 (some .int) ({ frames := 0, cells := 0, slots := 0, locals := 0 } : Room) [.ref m] σ (fun r σ' => r = some (.int (nI (ar 0 0))) ∧ IsTw g σ' m A (va_up (va_up iv 5 (nI 1)) 17 (nI 0)) wd (va_up ar 3 (ar 0)) rb ∧ Fm σ σ' m A) (nox) := by
  refine Ct.body (by decide) (Nat.le_of_ble_eq_true rfl) ?_
  intro p_ e_ s_ m_ args_ below_ meth_ c_ ls H locs Q F hW hl hQ
  have hl : lv_has ls 2 [(0, .ref m)] := hl
  obtain ⟨t0, tb0, ta0, ta1, ta2, ta3, ta4, ta5, ta6, ta7, tbb, tii⟩ := id hw
  refine lv_aload_n F.x F.cd dX3_save_0 rfl (lv_at hl 0 rfl) ?_
  refine lv_iconst (v := (nI 0)) F.x F.cd dX3_save_1 (by decide) ?_
  refine s_put F hW (ci := 7) (C := RX3) (T := TX3) (N := 18) (v := .int (nI 0)) (ty := .int) (t0) (tb0) rfl in_X3 tyX3_ok nmX3 17 (by decide) q2296 (fun _ h9 => h9) rfl (by decide +kernel) rfl rfl (Nat.le_of_ble_eq_true rfl) dX3_save_2 (fun H locs hW => ?_)
  obtain ⟨σ2, hσ2⟩ : ∃ z, z = sset σ m (.inr (7, [.ref (A 0), .ref (A 1), .ref (A 2), .int (iv 3), .ref (A 3), .int (iv 5), .ref (A 4), .ref (A 5), .int (iv 8), .ref (A 6), .int (iv 10), .int (iv 11), .ref wd, .ref (A 7), .int (iv 14), .int (iv 15), .int (iv 16), .int (nI 0)])) := ⟨_, rfl⟩
  have hW : Hl g σ2 H locs := by rw [hσ2]; exact hW
  have w2 : σ2 m = some (.inr (7, [.ref (A 0), .ref (A 1), .ref (A 2), .int (iv 3), .ref (A 3), .int (iv 5), .ref (A 4), .ref (A 5), .int (iv 8), .ref (A 6), .int (iv 10), .int (iv 11), .ref wd, .ref (A 7), .int (iv 14), .int (iv 15), .int (iv 16), .int (nI 0)])) := by rw [hσ2]; exact sset_eq
  have f3 : σ2 (A 0) = some (eI g 0 114 (fun x9 => nI ((ar 0) x9))) := by rw [hσ2, sset_ne (sto_ne t0 ta0 (by simp))]; exact ta0
  have f4 : σ2 (A 1) = some (eI g 0 114 (fun x9 => nI ((ar 1) x9))) := by rw [hσ2, sset_ne (sto_ne t0 ta1 (by simp))]; exact ta1
  have f5 : σ2 (A 2) = some (eI g 0 912 (fun x9 => nI ((ar 2) x9))) := by rw [hσ2, sset_ne (sto_ne t0 ta2 (by simp))]; exact ta2
  have f6 : σ2 (A 3) = some (eI g 0 114 (fun x9 => nI ((ar 3) x9))) := by rw [hσ2, sset_ne (sto_ne t0 ta3 (by simp))]; exact ta3
  have f7 : σ2 (A 4) = some (eI g 2 2048 (fun x9 => bI (rb x9))) := by rw [hσ2, sset_ne (sto_ne t0 ta4 (by simp))]; exact ta4
  have f8 : σ2 (A 5) = some (eI g 3 60 (fun x9 => nI ((ar 5) x9))) := by rw [hσ2, sset_ne (sto_ne t0 ta5 (by simp))]; exact ta5
  have f9 : σ2 (A 6) = some (eI g 3 60 (fun x9 => nI ((ar 6) x9))) := by rw [hσ2, sset_ne (sto_ne t0 ta6 (by simp))]; exact ta6
  have f10 : σ2 (A 7) = some (eI g 0 3 (fun x9 => nI ((ar 7) x9))) := by rw [hσ2, sset_ne (sto_ne t0 ta7 (by simp))]; exact ta7
  refine lv_aload_n F.x F.cd dX3_save_5 rfl (lv_at hl 0 rfl) ?_
  refine lv_iconst (v := (nI 1)) F.x F.cd dX3_save_6 (by decide) ?_
  refine s_put F hW (ci := 7) (C := RX3) (T := TX3) (N := 18) (v := .int (nI 1)) (ty := .boolean) (w2) (tb0) rfl in_X3 tyX3_ok nmX3 5 (by decide) q2284 (fun _ h9 => h9) rfl (by decide +kernel) (by decide) (by decide) (Nat.le_of_ble_eq_true rfl) dX3_save_7 (fun H locs hW => ?_)
  obtain ⟨σ12, hσ12⟩ : ∃ z, z = sset σ2 m (.inr (7, [.ref (A 0), .ref (A 1), .ref (A 2), .int (iv 3), .ref (A 3), .int (nI 1), .ref (A 4), .ref (A 5), .int (iv 8), .ref (A 6), .int (iv 10), .int (iv 11), .ref wd, .ref (A 7), .int (iv 14), .int (iv 15), .int (iv 16), .int (nI 0)])) := ⟨_, rfl⟩
  have hW : Hl g σ12 H locs := by rw [hσ12]; exact hW
  have w12 : σ12 m = some (.inr (7, [.ref (A 0), .ref (A 1), .ref (A 2), .int (iv 3), .ref (A 3), .int (nI 1), .ref (A 4), .ref (A 5), .int (iv 8), .ref (A 6), .int (iv 10), .int (iv 11), .ref wd, .ref (A 7), .int (iv 14), .int (iv 15), .int (iv 16), .int (nI 0)])) := by rw [hσ12]; exact sset_eq
  have f13 : σ12 (A 0) = some (eI g 0 114 (fun x9 => nI ((ar 0) x9))) := by rw [hσ12, sset_ne (sto_ne w2 f3 (by simp))]; exact f3
  have f14 : σ12 (A 1) = some (eI g 0 114 (fun x9 => nI ((ar 1) x9))) := by rw [hσ12, sset_ne (sto_ne w2 f4 (by simp))]; exact f4
  have f15 : σ12 (A 2) = some (eI g 0 912 (fun x9 => nI ((ar 2) x9))) := by rw [hσ12, sset_ne (sto_ne w2 f5 (by simp))]; exact f5
  have f16 : σ12 (A 3) = some (eI g 0 114 (fun x9 => nI ((ar 3) x9))) := by rw [hσ12, sset_ne (sto_ne w2 f6 (by simp))]; exact f6
  have f17 : σ12 (A 4) = some (eI g 2 2048 (fun x9 => bI (rb x9))) := by rw [hσ12, sset_ne (sto_ne w2 f7 (by simp))]; exact f7
  have f18 : σ12 (A 5) = some (eI g 3 60 (fun x9 => nI ((ar 5) x9))) := by rw [hσ12, sset_ne (sto_ne w2 f8 (by simp))]; exact f8
  have f19 : σ12 (A 6) = some (eI g 3 60 (fun x9 => nI ((ar 6) x9))) := by rw [hσ12, sset_ne (sto_ne w2 f9 (by simp))]; exact f9
  have f20 : σ12 (A 7) = some (eI g 0 3 (fun x9 => nI ((ar 7) x9))) := by rw [hσ12, sset_ne (sto_ne w2 f10 (by simp))]; exact f10
  refine lv_iconst (v := (nI 0)) F.x F.cd dX3_save_10 (by decide) ?_
  refine lv_istore_n (lv' := [(1, .int (nI 0)), (0, .ref m)]) F.x F.cd dX3_save_11 rfl hl (by decide) rfl (fun ls hl => ?_)
  have tw21 : IsTw g σ12 m A (va_up (va_up iv 5 (nI 1)) 17 (nI 0)) wd ar rb := ⟨w12, tb0, f13, f14, f15, f16, f17, f18, f19, f20, tbb, tii⟩
  have fm21 : Fm σ σ12 m A := by rw [hσ12, hσ2]; exact ((Fm.refl).setM).setM
  have loop12 : ∀ (nk : Nat) (k : Nat) (σk : Sto), k + nk = 114 → IsTw g σk m A (va_up (va_up iv 5 (nI 1)) 17 (nI 0)) wd (va_up ar 3 (cpT (ar 0) (ar 3) 0 k)) rb → Fm σ σk m A → ∀ (H : Heap) (locs : List Loc) (ls : Array Slot), Hl g σk H locs → lv_has ls 2 [(0, .ref m), (1, .int (nI k))] → W p_ l e_ ({ frames := 0, cells := 0, slots := 0, locals := 0 } : Room) s_ m_ args_ below_ meth_ c_ H locs 0 0 Q (F0 m_ 12 ls ([])) := by
    intro nk
    induction nk with
    | zero =>
      intro k σk hknk twk fmk H locs ls hW hl
      obtain ⟨t0_k22, -, ta0_k22, ta1_k22, ta2_k22, ta3_k22, ta4_k22, ta5_k22, ta6_k22, ta7_k22, -, -⟩ := id twk
      refine lv_iload_n F.x F.cd dX3_save_12 rfl (lv_at hl 1 rfl) ?_
      refine lv_bipush (v := (nI 114)) F.x F.cd dX3_save_13 (by decide) ?_
      refine n_icmp_ge (a := k) (b := 114) (tgt := 36) F (by omega) (by omega) dX3_save_15 (by decide) (fun c_15 => ?_) (fun c_15 => ?_)
      · obtain ⟨σ23, hW, tv23, fv23⟩ := IsTw.norm3 twk hW (ar 0) (fun j hj => cpT_e (by omega))
        obtain ⟨t0_24, -, ta0_24, ta1_24, ta2_24, ta3_24, ta4_24, ta5_24, ta6_24, ta7_24, -, -⟩ := id tv23
        have fm_24 : Fm σ σ23 m A := (fmk).trans fv23
        have tw_24 : IsTw g σ23 m A (va_up (va_up iv 5 (nI 1)) 17 (nI 0)) wd (va_up ar 3 (ar 0)) rb := ⟨t0_24, tb0, ta0_24, ta1_24, ta2_24, ta3_24, ta4_24, ta5_24, ta6_24, ta7_24, tbb, tii⟩
        refine lv_aload_n F.x F.cd dX3_save_36 rfl (lv_at hl 0 rfl) ?_
        refine s_get F hW (ci := 7) (C := RX3) (T := TX3) (N := 18) (v := .ref (A 0)) (t0_24) rfl in_X3 0 (by decide) q2279 (fun _ h9 => h9) rfl dX3_save_37 ?_
        refine lv_iconst (v := (nI 0)) F.x F.cd dX3_save_40 (by decide) ?_
        refine n_iald (i := 0) (n := 114) (f := (fun x9 => nI ((ar 0) x9))) (x := (nI (ar 0 0))) F hW (ta0_24) (by omega) (by omega) (rfl) dX3_save_41 ?_
        subst hQ
        exact s_reti (v := (nI (ar 0 0))) F hW rfl (⟨rfl, tw_24, fm_24⟩) ⟨(Nat.le_of_ble_eq_true rfl), (Nat.le_of_ble_eq_true rfl)⟩ dX3_save_42
      · exact absurd c_15 (by omega)
    | succ nk ih12 =>
      intro k σk hknk twk fmk H locs ls hW hl
      obtain ⟨t0_k22, -, ta0_k22, ta1_k22, ta2_k22, ta3_k22, ta4_k22, ta5_k22, ta6_k22, ta7_k22, -, -⟩ := id twk
      refine lv_iload_n F.x F.cd dX3_save_12 rfl (lv_at hl 1 rfl) ?_
      refine lv_bipush (v := (nI 114)) F.x F.cd dX3_save_13 (by decide) ?_
      refine n_icmp_ge (a := k) (b := 114) (tgt := 36) F (by omega) (by omega) dX3_save_15 (by decide) (fun c_15 => ?_) (fun c_15 => ?_)
      · exact absurd c_15 (by omega)
      · refine lv_aload_n F.x F.cd dX3_save_18 rfl (lv_at hl 0 rfl) ?_
        refine s_get F hW (ci := 7) (C := RX3) (T := TX3) (N := 18) (v := .ref (A 3)) (t0_k22) rfl in_X3 4 (by decide) q2283 (fun _ h9 => h9) rfl dX3_save_19 ?_
        refine lv_iload_n F.x F.cd dX3_save_22 rfl (lv_at hl 1 rfl) ?_
        refine lv_aload_n F.x F.cd dX3_save_23 rfl (lv_at hl 0 rfl) ?_
        refine s_get F hW (ci := 7) (C := RX3) (T := TX3) (N := 18) (v := .ref (A 0)) (t0_k22) rfl in_X3 0 (by decide) q2279 (fun _ h9 => h9) rfl dX3_save_24 ?_
        refine lv_iload_n F.x F.cd dX3_save_27 rfl (lv_at hl 1 rfl) ?_
        refine n_iald (i := k) (n := 114) (f := (fun x9 => nI ((ar 0) x9))) (x := (nI ((ar 0) k))) F hW (ta0_k22) (by omega) (by omega) (rfl) dX3_save_28 ?_
        refine n_iastN (i := k) F hW (ta3_k22) (tbb 3 (by decide)) (by omega) (by omega) dX3_save_29 (fun H locs hW => ?_)
        obtain ⟨σ25, hσ25⟩ : ∃ z, z = sset σk (A 3) (eI g 0 114 (fun x9 => nI ((va_up (cpT (ar 0) (ar 3) 0 k) k ((ar 0) k)) x9))) := ⟨_, rfl⟩
        have hW : Hl g σ25 H locs := by rw [hσ25]; exact hW
        have w25 : σ25 (A 3) = some (eI g 0 114 (fun x9 => nI ((va_up (cpT (ar 0) (ar 3) 0 k) k ((ar 0) k)) x9))) := by rw [hσ25]; exact sset_eq
        have f26 : σ25 m = some (.inr (7, [.ref (A 0), .ref (A 1), .ref (A 2), .int (iv 3), .ref (A 3), .int (nI 1), .ref (A 4), .ref (A 5), .int (iv 8), .ref (A 6), .int (iv 10), .int (iv 11), .ref wd, .ref (A 7), .int (iv 14), .int (iv 15), .int (iv 16), .int (nI 0)])) := by rw [hσ25, sset_ne (sto_ne ta3_k22 t0_k22 (by simp))]; exact t0_k22
        have f27 : σ25 (A 0) = some (eI g 0 114 (fun x9 => nI ((ar 0) x9))) := by rw [hσ25, sset_ne (fun q9 => absurd (tii 0 3 (by decide) (by decide) q9) (by decide))]; exact ta0_k22
        have f28 : σ25 (A 1) = some (eI g 0 114 (fun x9 => nI ((ar 1) x9))) := by rw [hσ25, sset_ne (fun q9 => absurd (tii 1 3 (by decide) (by decide) q9) (by decide))]; exact ta1_k22
        have f29 : σ25 (A 2) = some (eI g 0 912 (fun x9 => nI ((ar 2) x9))) := by rw [hσ25, sset_ne (fun q9 => absurd (tii 2 3 (by decide) (by decide) q9) (by decide))]; exact ta2_k22
        have f30 : σ25 (A 4) = some (eI g 2 2048 (fun x9 => bI (rb x9))) := by rw [hσ25, sset_ne (fun q9 => absurd (tii 4 3 (by decide) (by decide) q9) (by decide))]; exact ta4_k22
        have f31 : σ25 (A 5) = some (eI g 3 60 (fun x9 => nI ((ar 5) x9))) := by rw [hσ25, sset_ne (fun q9 => absurd (tii 5 3 (by decide) (by decide) q9) (by decide))]; exact ta5_k22
        have f32 : σ25 (A 6) = some (eI g 3 60 (fun x9 => nI ((ar 6) x9))) := by rw [hσ25, sset_ne (fun q9 => absurd (tii 6 3 (by decide) (by decide) q9) (by decide))]; exact ta6_k22
        have f33 : σ25 (A 7) = some (eI g 0 3 (fun x9 => nI ((ar 7) x9))) := by rw [hσ25, sset_ne (fun q9 => absurd (tii 7 3 (by decide) (by decide) q9) (by decide))]; exact ta7_k22
        refine lv_iinc (k := 1) (v := (nI (k + 1))) (lv' := [(1, .int (nI (k + 1))), (0, .ref m)]) F.x F.cd dX3_save_30 hl rfl (inc_nI k 1) (by decide) rfl (fun ls hl => ?_)
        refine lv_goto (tgt := 12) F.x F.cd dX3_save_33 (by decide) ?_
        have tw34 : IsTw g σ25 m A (va_up (va_up iv 5 (nI 1)) 17 (nI 0)) wd (va_up ar 3 (va_up (cpT (ar 0) (ar 3) 0 k) k ((ar 0) k))) rb := ⟨f26, tb0, f27, f28, f29, w25, f30, f31, f32, f33, tbb, tii⟩
        have fm34 : Fm σ σ25 m A := by rw [hσ25]; exact (fmk).setA 3 (by decide)
        exact ih12 (k + 1) σ25 (by omega) (by rw [← cpT_s0]; exact tw34) (fm34) H locs ls hW (lv_sub hl [1, 0] rfl)
  exact loop12 (114) 0 _ (by omega) (by rw [cpT_0]; exact tw21) (fm21) H locs ls hW (lv_sub hl [1, 0] rfl)
set_option maxHeartbeats 4000000 in
theorem k_X3_restore (g : Gh) (l : Launch) (σ : Sto) (m : Nat) (A : Nat → Nat) (iv : Nat → Int32) (wd : Nat) (ar : Nat → Nat → Nat) (rb : Nat → Bool)  (hw : IsTw g σ m A iv wd ar rb)  : Ct g l yX3_restore cX3_restore 2 (some .int) ({ frames := 1, cells := 0, slots := 0, locals := 21 } : Room) [.ref m] σ (fun r σ' => (iv 5 = 0 ∧ r = some (.int (nI 0)) ∧ IsTw g σ' m A (va_up iv 17 (nI 1)) wd ar rb ∧ Fm σ σ' m A) ∨ (¬ iv 5 = 0 ∧ r = some (.int (nI (ar 3 0))) ∧ IsTw g σ' m A (va_up (va_up iv 3 (nI 0)) 17 (nI 0)) wd (va_up ar 0 (ar 3)) rb ∧ Fm σ σ' m A)) (nox) := by
  refine Ct.body (by decide) (Nat.le_of_ble_eq_true rfl) ?_
  intro p_ e_ s_ m_ args_ below_ meth_ c_ ls H locs Q F hW hl hQ
  have hl : lv_has ls 2 [(0, .ref m)] := hl
  obtain ⟨t0, tb0, ta0, ta1, ta2, ta3, ta4, ta5, ta6, ta7, tbb, tii⟩ := id hw
  refine lv_aload_n F.x F.cd dX3_restore_0 rfl (lv_at hl 0 rfl) ?_
  refine lv_iconst (v := (nI 0)) F.x F.cd dX3_restore_1 (by decide) ?_
  refine s_put F hW (ci := 7) (C := RX3) (T := TX3) (N := 18) (v := .int (nI 0)) (ty := .int) (t0) (tb0) rfl in_X3 tyX3_ok nmX3 17 (by decide) q2296 (fun _ h9 => h9) rfl (by decide +kernel) rfl rfl (Nat.le_of_ble_eq_true rfl) dX3_restore_2 (fun H locs hW => ?_)
  obtain ⟨σ2, hσ2⟩ : ∃ z, z = sset σ m (.inr (7, [.ref (A 0), .ref (A 1), .ref (A 2), .int (iv 3), .ref (A 3), .int (iv 5), .ref (A 4), .ref (A 5), .int (iv 8), .ref (A 6), .int (iv 10), .int (iv 11), .ref wd, .ref (A 7), .int (iv 14), .int (iv 15), .int (iv 16), .int (nI 0)])) := ⟨_, rfl⟩
  have hW : Hl g σ2 H locs := by rw [hσ2]; exact hW
  have w2 : σ2 m = some (.inr (7, [.ref (A 0), .ref (A 1), .ref (A 2), .int (iv 3), .ref (A 3), .int (iv 5), .ref (A 4), .ref (A 5), .int (iv 8), .ref (A 6), .int (iv 10), .int (iv 11), .ref wd, .ref (A 7), .int (iv 14), .int (iv 15), .int (iv 16), .int (nI 0)])) := by rw [hσ2]; exact sset_eq
  have f3 : σ2 (A 0) = some (eI g 0 114 (fun x9 => nI ((ar 0) x9))) := by rw [hσ2, sset_ne (sto_ne t0 ta0 (by simp))]; exact ta0
  have f4 : σ2 (A 1) = some (eI g 0 114 (fun x9 => nI ((ar 1) x9))) := by rw [hσ2, sset_ne (sto_ne t0 ta1 (by simp))]; exact ta1
  have f5 : σ2 (A 2) = some (eI g 0 912 (fun x9 => nI ((ar 2) x9))) := by rw [hσ2, sset_ne (sto_ne t0 ta2 (by simp))]; exact ta2
  have f6 : σ2 (A 3) = some (eI g 0 114 (fun x9 => nI ((ar 3) x9))) := by rw [hσ2, sset_ne (sto_ne t0 ta3 (by simp))]; exact ta3
  have f7 : σ2 (A 4) = some (eI g 2 2048 (fun x9 => bI (rb x9))) := by rw [hσ2, sset_ne (sto_ne t0 ta4 (by simp))]; exact ta4
  have f8 : σ2 (A 5) = some (eI g 3 60 (fun x9 => nI ((ar 5) x9))) := by rw [hσ2, sset_ne (sto_ne t0 ta5 (by simp))]; exact ta5
  have f9 : σ2 (A 6) = some (eI g 3 60 (fun x9 => nI ((ar 6) x9))) := by rw [hσ2, sset_ne (sto_ne t0 ta6 (by simp))]; exact ta6
  have f10 : σ2 (A 7) = some (eI g 0 3 (fun x9 => nI ((ar 7) x9))) := by rw [hσ2, sset_ne (sto_ne t0 ta7 (by simp))]; exact ta7
  refine lv_aload_n F.x F.cd dX3_restore_5 rfl (lv_at hl 0 rfl) ?_
  refine s_get F hW (ci := 7) (C := RX3) (T := TX3) (N := 18) (v := .int (iv 5)) (w2) rfl in_X3 5 (by decide) q2284 (fun _ h9 => h9) rfl dX3_restore_6 ?_
  refine lv_if_ne (x := (iv 5)) (tgt := 18) F.x F.cd dX3_restore_9 (by decide) (fun c_9 => ?_) (fun c_9 => ?_)
  · refine lv_iconst (v := (nI 0)) F.x F.cd dX3_restore_18 (by decide) ?_
    refine lv_istore_n (lv' := [(1, .int (nI 0)), (0, .ref m)]) F.x F.cd dX3_restore_19 rfl hl (by decide) rfl (fun ls hl => ?_)
    have tw11 : IsTw g σ2 m A (va_up iv 17 (nI 0)) wd ar rb := ⟨w2, tb0, f3, f4, f5, f6, f7, f8, f9, f10, tbb, tii⟩
    have fm11 : Fm σ σ2 m A := by rw [hσ2]; exact (Fm.refl).setM
    have loop20 : ∀ (nk : Nat) (k : Nat) (σk : Sto), k + nk = 114 → IsTw g σk m A (va_up iv 17 (nI 0)) wd (va_up ar 0 (cpT (ar 3) (ar 0) 0 k)) rb → Fm σ σk m A → ∀ (H : Heap) (locs : List Loc) (ls : Array Slot), Hl g σk H locs → lv_has ls 2 [(0, .ref m), (1, .int (nI k))] → W p_ l e_ ({ frames := 1, cells := 0, slots := 0, locals := 21 } : Room) s_ m_ args_ below_ meth_ c_ H locs 0 0 Q (F0 m_ 20 ls ([])) := by
      intro nk
      induction nk with
      | zero =>
        intro k σk hknk twk fmk H locs ls hW hl
        obtain ⟨t0_k12, -, ta0_k12, ta1_k12, ta2_k12, ta3_k12, ta4_k12, ta5_k12, ta6_k12, ta7_k12, -, -⟩ := id twk
        refine lv_iload_n F.x F.cd dX3_restore_20 rfl (lv_at hl 1 rfl) ?_
        refine lv_bipush (v := (nI 114)) F.x F.cd dX3_restore_21 (by decide) ?_
        refine n_icmp_ge (a := k) (b := 114) (tgt := 44) F (by omega) (by omega) dX3_restore_23 (by decide) (fun c_23 => ?_) (fun c_23 => ?_)
        · obtain ⟨σ13, hW, tv13, fv13⟩ := IsTw.norm0 twk hW (ar 3) (fun j hj => cpT_e (by omega))
          obtain ⟨t0_14, -, ta0_14, ta1_14, ta2_14, ta3_14, ta4_14, ta5_14, ta6_14, ta7_14, -, -⟩ := id tv13
          have fm_14 : Fm σ σ13 m A := (fmk).trans fv13
          have tw_14 : IsTw g σ13 m A (va_up iv 17 (nI 0)) wd (va_up ar 0 (ar 3)) rb := ⟨t0_14, tb0, ta0_14, ta1_14, ta2_14, ta3_14, ta4_14, ta5_14, ta6_14, ta7_14, tbb, tii⟩
          refine lv_aload_n F.x F.cd dX3_restore_44 rfl (lv_at hl 0 rfl) ?_
          refine lv_iconst (v := (nI 0)) F.x F.cd dX3_restore_45 (by decide) ?_
          refine s_put F hW (ci := 7) (C := RX3) (T := TX3) (N := 18) (v := .int (nI 0)) (ty := .int) (t0_14) (tb0) rfl in_X3 tyX3_ok nmX3 3 (by decide) q2282 (fun _ h9 => h9) rfl (by decide +kernel) rfl rfl (Nat.le_of_ble_eq_true rfl) dX3_restore_46 (fun H locs hW => ?_)
          obtain ⟨σ16, hσ16⟩ : ∃ z, z = sset σ13 m (.inr (7, [.ref (A 0), .ref (A 1), .ref (A 2), .int (nI 0), .ref (A 3), .int (iv 5), .ref (A 4), .ref (A 5), .int (iv 8), .ref (A 6), .int (iv 10), .int (iv 11), .ref wd, .ref (A 7), .int (iv 14), .int (iv 15), .int (iv 16), .int (nI 0)])) := ⟨_, rfl⟩
          have hW : Hl g σ16 H locs := by rw [hσ16]; exact hW
          have w16 : σ16 m = some (.inr (7, [.ref (A 0), .ref (A 1), .ref (A 2), .int (nI 0), .ref (A 3), .int (iv 5), .ref (A 4), .ref (A 5), .int (iv 8), .ref (A 6), .int (iv 10), .int (iv 11), .ref wd, .ref (A 7), .int (iv 14), .int (iv 15), .int (iv 16), .int (nI 0)])) := by rw [hσ16]; exact sset_eq
          have f17 : σ16 (A 0) = some (eI g 0 114 (fun x9 => nI ((ar 3) x9))) := by rw [hσ16, sset_ne (sto_ne t0_14 ta0_14 (by simp))]; exact ta0_14
          have f18 : σ16 (A 1) = some (eI g 0 114 (fun x9 => nI ((ar 1) x9))) := by rw [hσ16, sset_ne (sto_ne t0_14 ta1_14 (by simp))]; exact ta1_14
          have f19 : σ16 (A 2) = some (eI g 0 912 (fun x9 => nI ((ar 2) x9))) := by rw [hσ16, sset_ne (sto_ne t0_14 ta2_14 (by simp))]; exact ta2_14
          have f20 : σ16 (A 3) = some (eI g 0 114 (fun x9 => nI ((ar 3) x9))) := by rw [hσ16, sset_ne (sto_ne t0_14 ta3_14 (by simp))]; exact ta3_14
          have f21 : σ16 (A 4) = some (eI g 2 2048 (fun x9 => bI (rb x9))) := by rw [hσ16, sset_ne (sto_ne t0_14 ta4_14 (by simp))]; exact ta4_14
          have f22 : σ16 (A 5) = some (eI g 3 60 (fun x9 => nI ((ar 5) x9))) := by rw [hσ16, sset_ne (sto_ne t0_14 ta5_14 (by simp))]; exact ta5_14
          have f23 : σ16 (A 6) = some (eI g 3 60 (fun x9 => nI ((ar 6) x9))) := by rw [hσ16, sset_ne (sto_ne t0_14 ta6_14 (by simp))]; exact ta6_14
          have f24 : σ16 (A 7) = some (eI g 0 3 (fun x9 => nI ((ar 7) x9))) := by rw [hσ16, sset_ne (sto_ne t0_14 ta7_14 (by simp))]; exact ta7_14
          refine lv_aload_n F.x F.cd dX3_restore_49 rfl (lv_at hl 0 rfl) ?_
          refine s_get F hW (ci := 7) (C := RX3) (T := TX3) (N := 18) (v := .ref (A 0)) (w16) rfl in_X3 0 (by decide) q2279 (fun _ h9 => h9) rfl dX3_restore_50 ?_
          refine lv_iconst (v := (nI 0)) F.x F.cd dX3_restore_53 (by decide) ?_
          refine n_iald (i := 0) (n := 114) (f := (fun x9 => nI ((ar 3) x9))) (x := (nI (ar 3 0))) F hW (f17) (by omega) (by omega) (rfl) dX3_restore_54 ?_
          have tw25 : IsTw g σ16 m A (va_up (va_up iv 3 (nI 0)) 17 (nI 0)) wd (va_up ar 0 (ar 3)) rb := ⟨w16, tb0, f17, f18, f19, f20, f21, f22, f23, f24, tbb, tii⟩
          have fm25 : Fm σ σ16 m A := by rw [hσ16]; exact (fm_14).setM
          subst hQ
          exact s_reti (v := (nI (ar 3 0))) F hW rfl (Or.inr ⟨c_9, rfl, tw25, fm25⟩) ⟨(Nat.le_of_ble_eq_true rfl), (Nat.le_of_ble_eq_true rfl)⟩ dX3_restore_55
        · exact absurd c_23 (by omega)
      | succ nk ih20 =>
        intro k σk hknk twk fmk H locs ls hW hl
        obtain ⟨t0_k12, -, ta0_k12, ta1_k12, ta2_k12, ta3_k12, ta4_k12, ta5_k12, ta6_k12, ta7_k12, -, -⟩ := id twk
        refine lv_iload_n F.x F.cd dX3_restore_20 rfl (lv_at hl 1 rfl) ?_
        refine lv_bipush (v := (nI 114)) F.x F.cd dX3_restore_21 (by decide) ?_
        refine n_icmp_ge (a := k) (b := 114) (tgt := 44) F (by omega) (by omega) dX3_restore_23 (by decide) (fun c_23 => ?_) (fun c_23 => ?_)
        · exact absurd c_23 (by omega)
        · refine lv_aload_n F.x F.cd dX3_restore_26 rfl (lv_at hl 0 rfl) ?_
          refine s_get F hW (ci := 7) (C := RX3) (T := TX3) (N := 18) (v := .ref (A 0)) (t0_k12) rfl in_X3 0 (by decide) q2279 (fun _ h9 => h9) rfl dX3_restore_27 ?_
          refine lv_iload_n F.x F.cd dX3_restore_30 rfl (lv_at hl 1 rfl) ?_
          refine lv_aload_n F.x F.cd dX3_restore_31 rfl (lv_at hl 0 rfl) ?_
          refine s_get F hW (ci := 7) (C := RX3) (T := TX3) (N := 18) (v := .ref (A 3)) (t0_k12) rfl in_X3 4 (by decide) q2283 (fun _ h9 => h9) rfl dX3_restore_32 ?_
          refine lv_iload_n F.x F.cd dX3_restore_35 rfl (lv_at hl 1 rfl) ?_
          refine n_iald (i := k) (n := 114) (f := (fun x9 => nI ((ar 3) x9))) (x := (nI ((ar 3) k))) F hW (ta3_k12) (by omega) (by omega) (rfl) dX3_restore_36 ?_
          refine n_iastN (i := k) F hW (ta0_k12) (tbb 0 (by decide)) (by omega) (by omega) dX3_restore_37 (fun H locs hW => ?_)
          obtain ⟨σ26, hσ26⟩ : ∃ z, z = sset σk (A 0) (eI g 0 114 (fun x9 => nI ((va_up (cpT (ar 3) (ar 0) 0 k) k ((ar 3) k)) x9))) := ⟨_, rfl⟩
          have hW : Hl g σ26 H locs := by rw [hσ26]; exact hW
          have w26 : σ26 (A 0) = some (eI g 0 114 (fun x9 => nI ((va_up (cpT (ar 3) (ar 0) 0 k) k ((ar 3) k)) x9))) := by rw [hσ26]; exact sset_eq
          have f27 : σ26 m = some (.inr (7, [.ref (A 0), .ref (A 1), .ref (A 2), .int (iv 3), .ref (A 3), .int (iv 5), .ref (A 4), .ref (A 5), .int (iv 8), .ref (A 6), .int (iv 10), .int (iv 11), .ref wd, .ref (A 7), .int (iv 14), .int (iv 15), .int (iv 16), .int (nI 0)])) := by rw [hσ26, sset_ne (sto_ne ta0_k12 t0_k12 (by simp))]; exact t0_k12
          have f28 : σ26 (A 1) = some (eI g 0 114 (fun x9 => nI ((ar 1) x9))) := by rw [hσ26, sset_ne (fun q9 => absurd (tii 1 0 (by decide) (by decide) q9) (by decide))]; exact ta1_k12
          have f29 : σ26 (A 2) = some (eI g 0 912 (fun x9 => nI ((ar 2) x9))) := by rw [hσ26, sset_ne (fun q9 => absurd (tii 2 0 (by decide) (by decide) q9) (by decide))]; exact ta2_k12
          have f30 : σ26 (A 3) = some (eI g 0 114 (fun x9 => nI ((ar 3) x9))) := by rw [hσ26, sset_ne (fun q9 => absurd (tii 3 0 (by decide) (by decide) q9) (by decide))]; exact ta3_k12
          have f31 : σ26 (A 4) = some (eI g 2 2048 (fun x9 => bI (rb x9))) := by rw [hσ26, sset_ne (fun q9 => absurd (tii 4 0 (by decide) (by decide) q9) (by decide))]; exact ta4_k12
          have f32 : σ26 (A 5) = some (eI g 3 60 (fun x9 => nI ((ar 5) x9))) := by rw [hσ26, sset_ne (fun q9 => absurd (tii 5 0 (by decide) (by decide) q9) (by decide))]; exact ta5_k12
          have f33 : σ26 (A 6) = some (eI g 3 60 (fun x9 => nI ((ar 6) x9))) := by rw [hσ26, sset_ne (fun q9 => absurd (tii 6 0 (by decide) (by decide) q9) (by decide))]; exact ta6_k12
          have f34 : σ26 (A 7) = some (eI g 0 3 (fun x9 => nI ((ar 7) x9))) := by rw [hσ26, sset_ne (fun q9 => absurd (tii 7 0 (by decide) (by decide) q9) (by decide))]; exact ta7_k12
          refine lv_iinc (k := 1) (v := (nI (k + 1))) (lv' := [(1, .int (nI (k + 1))), (0, .ref m)]) F.x F.cd dX3_restore_38 hl rfl (inc_nI k 1) (by decide) rfl (fun ls hl => ?_)
          refine lv_goto (tgt := 20) F.x F.cd dX3_restore_41 (by decide) ?_
          have tw35 : IsTw g σ26 m A (va_up iv 17 (nI 0)) wd (va_up ar 0 (va_up (cpT (ar 3) (ar 0) 0 k) k ((ar 3) k))) rb := ⟨f27, tb0, w26, f28, f29, f30, f31, f32, f33, f34, tbb, tii⟩
          have fm35 : Fm σ σ26 m A := by rw [hσ26]; exact (fmk).setA 0 (by decide)
          exact ih20 (k + 1) σ26 (by omega) (by rw [← cpT_s0]; exact tw35) (fm35) H locs ls hW (lv_sub hl [1, 0] rfl)
    exact loop20 (114) 0 _ (by omega) (by rw [cpT_0]; exact tw11) (fm11) H locs ls hW (lv_sub hl [1, 0] rfl)
  · refine lv_aload_n F.x F.cd dX3_restore_12 rfl (lv_at hl 0 rfl) ?_
    refine lv_iconst (v := (nI 1)) F.x F.cd dX3_restore_13 (by decide) ?_
    have tw37 : IsTw g σ2 m A (va_up iv 17 (nI 0)) wd ar rb := ⟨w2, tb0, f3, f4, f5, f6, f7, f8, f9, f10, tbb, tii⟩
    have fm37 : Fm σ σ2 m A := by rw [hσ2]; exact (Fm.refl).setM
    refine s_callV (As := [.int (nI 1)]) (rest := []) (C := RX3) (T := TX3) (N := 18) (n := 1) F hW (k_X3_raises g l σ2 m A _ _ _ _ (nI 1) tw37 ) (w2) rfl q2362 q2364 qs37 q79 q2365 rfl (by decide +kernel) rfl ⟨⟨Nat.le_of_ble_eq_true rfl, Nat.le_of_ble_eq_true rfl⟩, ⟨(Nat.le_of_ble_eq_true rfl), (Nat.le_of_ble_eq_true rfl)⟩⟩ (Nat.le_of_ble_eq_true rfl) hl.1 rfl dX3_restore_14 cX_no (fun r38 σ38 H locs hp38 hW => ?_)
    obtain ⟨rfl, tv38, fv38⟩ := hp38
    refine W.eq (g2 := F0 m_ 17 ls (.int (nI 0) :: [])) rfl ?_
    obtain ⟨t0_39, -, ta0_39, ta1_39, ta2_39, ta3_39, ta4_39, ta5_39, ta6_39, ta7_39, -, -⟩ := id tv38
    have fm_39 : Fm σ σ38 m A := (fm37).trans fv38
    have tw_39 : IsTw g σ38 m A (va_up iv 17 (nI 1)) wd ar rb := ⟨t0_39, tb0, ta0_39, ta1_39, ta2_39, ta3_39, ta4_39, ta5_39, ta6_39, ta7_39, tbb, tii⟩
    subst hQ
    exact s_reti (v := (nI 0)) F hW rfl (Or.inl ⟨c_9, rfl, tw_39, fm_39⟩) ⟨(Nat.le_of_ble_eq_true rfl), (Nat.le_of_ble_eq_true rfl)⟩ dX3_restore_17
set_option maxHeartbeats 4000000 in
theorem k_X3_outputAt (g : Gh) (l : Launch) (σ : Sto) (m : Nat) (A : Nat → Nat) (iv : Nat → Int32) (wd : Nat) (ar : Nat → Nat → Nat) (rb : Nat → Bool) (x : Int32) (w : Nat) (hw : IsTw g σ m A iv wd ar rb) (h8 : iv 8 = nI w) (hw60 : w ≤ 60) (ho : ∀ j, j < 60 → ar 5 j < 65536) : Ct g l yX3_outputAt cX3_outputAt 2 (some .char) ({ frames := 1, cells := 0, slots := 0, locals := 22 } : Room) [.ref m, .int x] σ (fun r σ' => (∃ i, i < w ∧ x = nI i ∧ r = some (.int (nI (ar 5 i))) ∧ IsTw g σ' m A (va_up iv 17 (nI 0)) wd ar rb ∧ Fm σ σ' m A) ∨ (inN x w = false ∧ r = some (.int (nI 97)) ∧ IsTw g σ' m A (va_up iv 17 (nI 1)) wd ar rb ∧ Fm σ σ' m A)) (nox) := by
  refine Ct.body (by decide) (Nat.le_of_ble_eq_true rfl) ?_
  intro p_ e_ s_ m_ args_ below_ meth_ c_ ls H locs Q F hW hl hQ
  have hl : lv_has ls 2 [(0, .ref m), (1, .int x)] := hl
  obtain ⟨t0, tb0, ta0, ta1, ta2, ta3, ta4, ta5, ta6, ta7, tbb, tii⟩ := id hw
  have tw_1 : IsTw g σ m A (va_up iv 8 (nI w)) wd ar rb := by
    rw [← h8]
    exact ⟨t0, tb0, ta0, ta1, ta2, ta3, ta4, ta5, ta6, ta7, tbb, tii⟩
  obtain ⟨t0_1, -, ta0_1, ta1_1, ta2_1, ta3_1, ta4_1, ta5_1, ta6_1, ta7_1, -, -⟩ := id tw_1
  refine lv_aload_n F.x F.cd dX3_outputAt_0 rfl (lv_at hl 0 rfl) ?_
  refine lv_iload_n F.x F.cd dX3_outputAt_1 rfl (lv_at hl 1 rfl) ?_
  refine lv_iconst (v := (nI 0)) F.x F.cd dX3_outputAt_2 (by decide) ?_
  refine lv_aload_n F.x F.cd dX3_outputAt_3 rfl (lv_at hl 0 rfl) ?_
  refine s_get F hW (ci := 7) (C := RX3) (T := TX3) (N := 18) (v := .int (nI w)) (t0_1) rfl in_X3 8 (by decide) q2287 (fun _ h9 => h9) rfl dX3_outputAt_4 ?_
  refine lv_iconst (v := (nI 1)) F.x F.cd dX3_outputAt_7 (by decide) ?_
  refine a_isub (v := (nI w - nI 1)) F (rfl) dX3_outputAt_8 ?_
  refine s_callS (As := [.int x, .int (nI 0), .int (nI w - nI 1)]) (rest := [.ref m]) (n := 3) F hW (k_X3_in g l σ x (nI 0) (nI w - nI 1)) q2351 q2352 q79 q2353 (by decide +kernel) rfl ⟨⟨Nat.le_of_ble_eq_true rfl, Nat.le_of_ble_eq_true rfl⟩, ⟨(Nat.le_of_ble_eq_true rfl), (Nat.le_of_ble_eq_true rfl)⟩⟩ (Nat.le_of_ble_eq_true rfl) hl.1 rfl dX3_outputAt_9 cX_no (fun r2 σ2 H locs hp2 hW => ?_)
  obtain ⟨rfl, hs2⟩ := hp2
  rw [hs2] at hW
  refine W.eq (g2 := F0 m_ 12 ls (.int (bI (btw x (nI 0) (nI w - nI 1))) :: .ref m :: [])) rfl ?_
  refine b_if_eq (b := (btw x (nI 0) (nI w - nI 1))) (tgt := 19) F dX3_outputAt_12 (by decide) (fun c_12 => ?_) (fun c_12 => ?_)
  · refine lv_iconst (v := (nI 1)) F.x F.cd dX3_outputAt_19 (by decide) ?_
    refine s_put F hW (ci := 7) (C := RX3) (T := TX3) (N := 18) (v := .int (nI 1)) (ty := .int) (t0_1) (tb0) rfl in_X3 tyX3_ok nmX3 17 (by decide) q2296 (fun _ h9 => h9) rfl (by decide +kernel) rfl rfl (Nat.le_of_ble_eq_true rfl) dX3_outputAt_20 (fun H locs hW => ?_)
    obtain ⟨σ4, hσ4⟩ : ∃ z, z = sset σ m (.inr (7, [.ref (A 0), .ref (A 1), .ref (A 2), .int (iv 3), .ref (A 3), .int (iv 5), .ref (A 4), .ref (A 5), .int (nI w), .ref (A 6), .int (iv 10), .int (iv 11), .ref wd, .ref (A 7), .int (iv 14), .int (iv 15), .int (iv 16), .int (nI 1)])) := ⟨_, rfl⟩
    have hW : Hl g σ4 H locs := by rw [hσ4]; exact hW
    have w4 : σ4 m = some (.inr (7, [.ref (A 0), .ref (A 1), .ref (A 2), .int (iv 3), .ref (A 3), .int (iv 5), .ref (A 4), .ref (A 5), .int (nI w), .ref (A 6), .int (iv 10), .int (iv 11), .ref wd, .ref (A 7), .int (iv 14), .int (iv 15), .int (iv 16), .int (nI 1)])) := by rw [hσ4]; exact sset_eq
    have f5 : σ4 (A 0) = some (eI g 0 114 (fun x9 => nI ((ar 0) x9))) := by rw [hσ4, sset_ne (sto_ne t0_1 ta0_1 (by simp))]; exact ta0_1
    have f6 : σ4 (A 1) = some (eI g 0 114 (fun x9 => nI ((ar 1) x9))) := by rw [hσ4, sset_ne (sto_ne t0_1 ta1_1 (by simp))]; exact ta1_1
    have f7 : σ4 (A 2) = some (eI g 0 912 (fun x9 => nI ((ar 2) x9))) := by rw [hσ4, sset_ne (sto_ne t0_1 ta2_1 (by simp))]; exact ta2_1
    have f8 : σ4 (A 3) = some (eI g 0 114 (fun x9 => nI ((ar 3) x9))) := by rw [hσ4, sset_ne (sto_ne t0_1 ta3_1 (by simp))]; exact ta3_1
    have f9 : σ4 (A 4) = some (eI g 2 2048 (fun x9 => bI (rb x9))) := by rw [hσ4, sset_ne (sto_ne t0_1 ta4_1 (by simp))]; exact ta4_1
    have f10 : σ4 (A 5) = some (eI g 3 60 (fun x9 => nI ((ar 5) x9))) := by rw [hσ4, sset_ne (sto_ne t0_1 ta5_1 (by simp))]; exact ta5_1
    have f11 : σ4 (A 6) = some (eI g 3 60 (fun x9 => nI ((ar 6) x9))) := by rw [hσ4, sset_ne (sto_ne t0_1 ta6_1 (by simp))]; exact ta6_1
    have f12 : σ4 (A 7) = some (eI g 0 3 (fun x9 => nI ((ar 7) x9))) := by rw [hσ4, sset_ne (sto_ne t0_1 ta7_1 (by simp))]; exact ta7_1
    refine lv_aload_n F.x F.cd dX3_outputAt_23 rfl (lv_at hl 0 rfl) ?_
    refine s_get F hW (ci := 7) (C := RX3) (T := TX3) (N := 18) (v := .int (nI 1)) (w4) rfl in_X3 17 (by decide) q2296 (fun _ h9 => h9) rfl dX3_outputAt_24 ?_
    refine n_if_ne (a := 1) (tgt := 39) F (by omega) dX3_outputAt_27 (by decide) (fun c_27 => ?_) (fun c_27 => absurd c_27 (by decide))
    refine lv_bipush (v := (nI 97)) F.x F.cd dX3_outputAt_39 (by decide) ?_
    have tw13 : IsTw g σ4 m A (va_up (va_up iv 8 (nI w)) 17 (nI 1)) wd ar rb := ⟨w4, tb0, f5, f6, f7, f8, f9, f10, f11, f12, tbb, tii⟩
    have fm13 : Fm σ σ4 m A := by rw [hσ4]; exact (Fm.refl).setM
    subst hQ
    exact s_reti (v := (nI 97)) F hW (nar_c (by omega)) (Or.inr ⟨c_12, rfl, (by have e9 := tw13; rw [va_up_same h8] at e9; exact e9), fm13⟩) ⟨(Nat.le_of_ble_eq_true rfl), (Nat.le_of_ble_eq_true rfl)⟩ dX3_outputAt_41
  · obtain ⟨i, hi, rfl⟩ := (inN_iff (p := x) (n := w) (by omega)).mp c_12
    have ho9 := ho i (by omega)
    refine lv_iconst (v := (nI 0)) F.x F.cd dX3_outputAt_15 (by decide) ?_
    refine lv_goto (tgt := 20) F.x F.cd dX3_outputAt_16 (by decide) ?_
    refine s_put F hW (ci := 7) (C := RX3) (T := TX3) (N := 18) (v := .int (nI 0)) (ty := .int) (t0_1) (tb0) rfl in_X3 tyX3_ok nmX3 17 (by decide) q2296 (fun _ h9 => h9) rfl (by decide +kernel) rfl rfl (Nat.le_of_ble_eq_true rfl) dX3_outputAt_20 (fun H locs hW => ?_)
    obtain ⟨σ15, hσ15⟩ : ∃ z, z = sset σ m (.inr (7, [.ref (A 0), .ref (A 1), .ref (A 2), .int (iv 3), .ref (A 3), .int (iv 5), .ref (A 4), .ref (A 5), .int (nI w), .ref (A 6), .int (iv 10), .int (iv 11), .ref wd, .ref (A 7), .int (iv 14), .int (iv 15), .int (iv 16), .int (nI 0)])) := ⟨_, rfl⟩
    have hW : Hl g σ15 H locs := by rw [hσ15]; exact hW
    have w15 : σ15 m = some (.inr (7, [.ref (A 0), .ref (A 1), .ref (A 2), .int (iv 3), .ref (A 3), .int (iv 5), .ref (A 4), .ref (A 5), .int (nI w), .ref (A 6), .int (iv 10), .int (iv 11), .ref wd, .ref (A 7), .int (iv 14), .int (iv 15), .int (iv 16), .int (nI 0)])) := by rw [hσ15]; exact sset_eq
    have f16 : σ15 (A 0) = some (eI g 0 114 (fun x9 => nI ((ar 0) x9))) := by rw [hσ15, sset_ne (sto_ne t0_1 ta0_1 (by simp))]; exact ta0_1
    have f17 : σ15 (A 1) = some (eI g 0 114 (fun x9 => nI ((ar 1) x9))) := by rw [hσ15, sset_ne (sto_ne t0_1 ta1_1 (by simp))]; exact ta1_1
    have f18 : σ15 (A 2) = some (eI g 0 912 (fun x9 => nI ((ar 2) x9))) := by rw [hσ15, sset_ne (sto_ne t0_1 ta2_1 (by simp))]; exact ta2_1
    have f19 : σ15 (A 3) = some (eI g 0 114 (fun x9 => nI ((ar 3) x9))) := by rw [hσ15, sset_ne (sto_ne t0_1 ta3_1 (by simp))]; exact ta3_1
    have f20 : σ15 (A 4) = some (eI g 2 2048 (fun x9 => bI (rb x9))) := by rw [hσ15, sset_ne (sto_ne t0_1 ta4_1 (by simp))]; exact ta4_1
    have f21 : σ15 (A 5) = some (eI g 3 60 (fun x9 => nI ((ar 5) x9))) := by rw [hσ15, sset_ne (sto_ne t0_1 ta5_1 (by simp))]; exact ta5_1
    have f22 : σ15 (A 6) = some (eI g 3 60 (fun x9 => nI ((ar 6) x9))) := by rw [hσ15, sset_ne (sto_ne t0_1 ta6_1 (by simp))]; exact ta6_1
    have f23 : σ15 (A 7) = some (eI g 0 3 (fun x9 => nI ((ar 7) x9))) := by rw [hσ15, sset_ne (sto_ne t0_1 ta7_1 (by simp))]; exact ta7_1
    refine lv_aload_n F.x F.cd dX3_outputAt_23 rfl (lv_at hl 0 rfl) ?_
    refine s_get F hW (ci := 7) (C := RX3) (T := TX3) (N := 18) (v := .int (nI 0)) (w15) rfl in_X3 17 (by decide) q2296 (fun _ h9 => h9) rfl dX3_outputAt_24 ?_
    refine n_if_ne (a := 0) (tgt := 39) F (by omega) dX3_outputAt_27 (by decide) (fun c_27 => absurd (by decide) c_27) (fun c_27 => ?_)
    refine lv_aload_n F.x F.cd dX3_outputAt_30 rfl (lv_at hl 0 rfl) ?_
    refine s_get F hW (ci := 7) (C := RX3) (T := TX3) (N := 18) (v := .ref (A 5)) (w15) rfl in_X3 7 (by decide) q2286 (fun _ h9 => h9) rfl dX3_outputAt_31 ?_
    refine lv_iload_n F.x F.cd dX3_outputAt_34 rfl (lv_at hl 1 rfl) ?_
    refine n_cald (i := i) (n := 60) (f := (fun x9 => nI ((ar 5) x9))) (x := (nI ((ar 5) i))) F hW (f21) (by omega) (by omega) (rfl) dX3_outputAt_35 ?_
    refine lv_goto (tgt := 41) F.x F.cd dX3_outputAt_36 (by decide) ?_
    have tw24 : IsTw g σ15 m A (va_up (va_up iv 8 (nI w)) 17 (nI 0)) wd ar rb := ⟨w15, tb0, f16, f17, f18, f19, f20, f21, f22, f23, tbb, tii⟩
    have fm24 : Fm σ σ15 m A := by rw [hσ15]; exact (Fm.refl).setM
    subst hQ
    exact s_reti (v := (nI ((ar 5) i))) F hW (nar_c (by omega)) (Or.inl ⟨i, hi, rfl, rfl, (by have e9 := tw24; rw [va_up_same h8] at e9; exact e9), fm24⟩) ⟨(Nat.le_of_ble_eq_true rfl), (Nat.le_of_ble_eq_true rfl)⟩ dX3_outputAt_41
set_option maxHeartbeats 4000000 in
theorem k_X3_type (g : Gh) (l : Launch) (σ : Sto) (m : Nat) (A : Nat → Nat) (iv : Nat → Int32) (wd : Nat) (ar : Nat → Nat → Nat) (rb : Nat → Bool) (c n : Nat) (hw : IsTw g σ m A iv wd ar rb) (hc : c < 65536) (h10 : iv 10 = nI n) (hn60 : n ≤ 60) : Ct g l yX3_type cX3_type 2 (some .int) ({ frames := 1, cells := 0, slots := 0, locals := 22 } : Room) [.ref m, .int (nI c)] σ (fun r σ' => (btw (nI c) (nI 32) (nI 126) = false ∧ r = some (.int (nI 0)) ∧ IsTw g σ' m A (va_up iv 17 (nI 1)) wd ar rb ∧ Fm σ σ' m A) ∨ (btw (nI c) (nI 32) (nI 126) = true ∧ n = 60 ∧ r = some (.int (nI 0)) ∧ IsTw g σ' m A (va_up iv 17 (nI 2)) wd ar rb ∧ Fm σ σ' m A) ∨ (btw (nI c) (nI 32) (nI 126) = true ∧ n < 60 ∧ r = some (.int (nI (n + 1))) ∧ IsTw g σ' m A (va_up (va_up iv 10 (nI (n + 1))) 17 (nI 0)) wd (va_up ar 6 (va_up (ar 6) n c)) rb ∧ Fm σ σ' m A)) (nox) := by
  refine Ct.body (by decide) (Nat.le_of_ble_eq_true rfl) ?_
  intro p_ e_ s_ m_ args_ below_ meth_ c_ ls H locs Q F hW hl hQ
  have hl : lv_has ls 2 [(0, .ref m), (1, .int (nI c))] := hl
  obtain ⟨t0, tb0, ta0, ta1, ta2, ta3, ta4, ta5, ta6, ta7, tbb, tii⟩ := id hw
  refine lv_aload_n F.x F.cd dX3_type_0 rfl (lv_at hl 0 rfl) ?_
  refine lv_iconst (v := (nI 0)) F.x F.cd dX3_type_1 (by decide) ?_
  refine s_put F hW (ci := 7) (C := RX3) (T := TX3) (N := 18) (v := .int (nI 0)) (ty := .int) (t0) (tb0) rfl in_X3 tyX3_ok nmX3 17 (by decide) q2296 (fun _ h9 => h9) rfl (by decide +kernel) rfl rfl (Nat.le_of_ble_eq_true rfl) dX3_type_2 (fun H locs hW => ?_)
  obtain ⟨σ2, hσ2⟩ : ∃ z, z = sset σ m (.inr (7, [.ref (A 0), .ref (A 1), .ref (A 2), .int (iv 3), .ref (A 3), .int (iv 5), .ref (A 4), .ref (A 5), .int (iv 8), .ref (A 6), .int (iv 10), .int (iv 11), .ref wd, .ref (A 7), .int (iv 14), .int (iv 15), .int (iv 16), .int (nI 0)])) := ⟨_, rfl⟩
  have hW : Hl g σ2 H locs := by rw [hσ2]; exact hW
  have w2 : σ2 m = some (.inr (7, [.ref (A 0), .ref (A 1), .ref (A 2), .int (iv 3), .ref (A 3), .int (iv 5), .ref (A 4), .ref (A 5), .int (iv 8), .ref (A 6), .int (iv 10), .int (iv 11), .ref wd, .ref (A 7), .int (iv 14), .int (iv 15), .int (iv 16), .int (nI 0)])) := by rw [hσ2]; exact sset_eq
  have f3 : σ2 (A 0) = some (eI g 0 114 (fun x9 => nI ((ar 0) x9))) := by rw [hσ2, sset_ne (sto_ne t0 ta0 (by simp))]; exact ta0
  have f4 : σ2 (A 1) = some (eI g 0 114 (fun x9 => nI ((ar 1) x9))) := by rw [hσ2, sset_ne (sto_ne t0 ta1 (by simp))]; exact ta1
  have f5 : σ2 (A 2) = some (eI g 0 912 (fun x9 => nI ((ar 2) x9))) := by rw [hσ2, sset_ne (sto_ne t0 ta2 (by simp))]; exact ta2
  have f6 : σ2 (A 3) = some (eI g 0 114 (fun x9 => nI ((ar 3) x9))) := by rw [hσ2, sset_ne (sto_ne t0 ta3 (by simp))]; exact ta3
  have f7 : σ2 (A 4) = some (eI g 2 2048 (fun x9 => bI (rb x9))) := by rw [hσ2, sset_ne (sto_ne t0 ta4 (by simp))]; exact ta4
  have f8 : σ2 (A 5) = some (eI g 3 60 (fun x9 => nI ((ar 5) x9))) := by rw [hσ2, sset_ne (sto_ne t0 ta5 (by simp))]; exact ta5
  have f9 : σ2 (A 6) = some (eI g 3 60 (fun x9 => nI ((ar 6) x9))) := by rw [hσ2, sset_ne (sto_ne t0 ta6 (by simp))]; exact ta6
  have f10 : σ2 (A 7) = some (eI g 0 3 (fun x9 => nI ((ar 7) x9))) := by rw [hσ2, sset_ne (sto_ne t0 ta7 (by simp))]; exact ta7
  refine lv_iload_n F.x F.cd dX3_type_5 rfl (lv_at hl 1 rfl) ?_
  refine lv_bipush (v := (nI 32)) F.x F.cd dX3_type_6 (by decide) ?_
  refine lv_bipush (v := (nI 126)) F.x F.cd dX3_type_8 (by decide) ?_
  refine s_callS (As := [.int (nI c), .int (nI 32), .int (nI 126)]) (rest := []) (n := 3) F hW (k_X3_in g l σ2 (nI c) (nI 32) (nI 126)) q2351 q2352 q79 q2353 (by decide +kernel) rfl ⟨⟨Nat.le_of_ble_eq_true rfl, Nat.le_of_ble_eq_true rfl⟩, ⟨(Nat.le_of_ble_eq_true rfl), (Nat.le_of_ble_eq_true rfl)⟩⟩ (Nat.le_of_ble_eq_true rfl) hl.1 rfl dX3_type_10 cX_no (fun r11 σ11 H locs hp11 hW => ?_)
  obtain ⟨rfl, hs11⟩ := hp11
  rw [hs11] at hW
  refine W.eq (g2 := F0 m_ 13 ls (.int (bI (btw (nI c) (nI 32) (nI 126))) :: [])) rfl ?_
  refine b_if_ne (b := (btw (nI c) (nI 32) (nI 126))) (tgt := 22) F dX3_type_13 (by decide) (fun c_13 => ?_) (fun c_13 => ?_)
  · have tw12 : IsTw g σ2 m A (va_up iv 17 (nI 0)) wd ar rb := ⟨w2, tb0, f3, f4, f5, f6, f7, f8, f9, f10, tbb, tii⟩
    have fm12 : Fm σ σ2 m A := by rw [hσ2]; exact (Fm.refl).setM
    have tw_13 : IsTw g σ2 m A (va_up (va_up iv 10 (nI n)) 17 (nI 0)) wd ar rb := by
      rw [← h10]
      exact ⟨w2, tb0, f3, f4, f5, f6, f7, f8, f9, f10, tbb, tii⟩
    obtain ⟨t0_13, -, ta0_13, ta1_13, ta2_13, ta3_13, ta4_13, ta5_13, ta6_13, ta7_13, -, -⟩ := id tw_13
    refine lv_aload_n F.x F.cd dX3_type_22 rfl (lv_at hl 0 rfl) ?_
    refine s_get F hW (ci := 7) (C := RX3) (T := TX3) (N := 18) (v := .int (nI n)) (t0_13) rfl in_X3 10 (by decide) q2289 (fun _ h9 => h9) rfl dX3_type_23 ?_
    refine lv_bipush (v := (nI 60)) F.x F.cd dX3_type_26 (by decide) ?_
    refine n_icmp_ne (a := n) (b := 60) (tgt := 37) F (by omega) (by omega) dX3_type_28 (by decide) (fun c_28 => ?_) (fun c_28 => ?_)
    · refine lv_aload_n F.x F.cd dX3_type_37 rfl (lv_at hl 0 rfl) ?_
      refine s_get F hW (ci := 7) (C := RX3) (T := TX3) (N := 18) (v := .ref (A 6)) (t0_13) rfl in_X3 9 (by decide) q2288 (fun _ h9 => h9) rfl dX3_type_38 ?_
      refine lv_aload_n F.x F.cd dX3_type_41 rfl (lv_at hl 0 rfl) ?_
      refine lv_dup F.x F.cd dX3_type_42 rfl ?_
      refine s_get F hW (ci := 7) (C := RX3) (T := TX3) (N := 18) (v := .int (nI n)) (t0_13) rfl in_X3 10 (by decide) q2289 (fun _ h9 => h9) rfl dX3_type_43 ?_
      refine lv_dup_x1 F.x F.cd dX3_type_46 rfl rfl ?_
      refine lv_iconst (v := (nI 1)) F.x F.cd dX3_type_47 (by decide) ?_
      refine a_iadd (v := (nI (n + 1))) F (nI_add _ _) dX3_type_48 ?_
      refine s_put F hW (ci := 7) (C := RX3) (T := TX3) (N := 18) (v := .int (nI (n + 1))) (ty := .int) (t0_13) (tb0) rfl in_X3 tyX3_ok nmX3 10 (by decide) q2289 (fun _ h9 => h9) rfl (by decide +kernel) rfl rfl (Nat.le_of_ble_eq_true rfl) dX3_type_49 (fun H locs hW => ?_)
      obtain ⟨σ15, hσ15⟩ : ∃ z, z = sset σ2 m (.inr (7, [.ref (A 0), .ref (A 1), .ref (A 2), .int (iv 3), .ref (A 3), .int (iv 5), .ref (A 4), .ref (A 5), .int (iv 8), .ref (A 6), .int (nI (n + 1)), .int (iv 11), .ref wd, .ref (A 7), .int (iv 14), .int (iv 15), .int (iv 16), .int (nI 0)])) := ⟨_, rfl⟩
      have hW : Hl g σ15 H locs := by rw [hσ15]; exact hW
      have w15 : σ15 m = some (.inr (7, [.ref (A 0), .ref (A 1), .ref (A 2), .int (iv 3), .ref (A 3), .int (iv 5), .ref (A 4), .ref (A 5), .int (iv 8), .ref (A 6), .int (nI (n + 1)), .int (iv 11), .ref wd, .ref (A 7), .int (iv 14), .int (iv 15), .int (iv 16), .int (nI 0)])) := by rw [hσ15]; exact sset_eq
      have f16 : σ15 (A 0) = some (eI g 0 114 (fun x9 => nI ((ar 0) x9))) := by rw [hσ15, sset_ne (sto_ne t0_13 ta0_13 (by simp))]; exact ta0_13
      have f17 : σ15 (A 1) = some (eI g 0 114 (fun x9 => nI ((ar 1) x9))) := by rw [hσ15, sset_ne (sto_ne t0_13 ta1_13 (by simp))]; exact ta1_13
      have f18 : σ15 (A 2) = some (eI g 0 912 (fun x9 => nI ((ar 2) x9))) := by rw [hσ15, sset_ne (sto_ne t0_13 ta2_13 (by simp))]; exact ta2_13
      have f19 : σ15 (A 3) = some (eI g 0 114 (fun x9 => nI ((ar 3) x9))) := by rw [hσ15, sset_ne (sto_ne t0_13 ta3_13 (by simp))]; exact ta3_13
      have f20 : σ15 (A 4) = some (eI g 2 2048 (fun x9 => bI (rb x9))) := by rw [hσ15, sset_ne (sto_ne t0_13 ta4_13 (by simp))]; exact ta4_13
      have f21 : σ15 (A 5) = some (eI g 3 60 (fun x9 => nI ((ar 5) x9))) := by rw [hσ15, sset_ne (sto_ne t0_13 ta5_13 (by simp))]; exact ta5_13
      have f22 : σ15 (A 6) = some (eI g 3 60 (fun x9 => nI ((ar 6) x9))) := by rw [hσ15, sset_ne (sto_ne t0_13 ta6_13 (by simp))]; exact ta6_13
      have f23 : σ15 (A 7) = some (eI g 0 3 (fun x9 => nI ((ar 7) x9))) := by rw [hσ15, sset_ne (sto_ne t0_13 ta7_13 (by simp))]; exact ta7_13
      refine lv_iload_n F.x F.cd dX3_type_52 rfl (lv_at hl 1 rfl) ?_
      refine n_castN (i := n) F hW (f22) (tbb 6 (by decide)) (by omega) (by omega) (nar_c (by omega)) dX3_type_53 (fun H locs hW => ?_)
      obtain ⟨σ24, hσ24⟩ : ∃ z, z = sset σ15 (A 6) (eI g 3 60 (fun x9 => nI ((va_up (ar 6) n c) x9))) := ⟨_, rfl⟩
      have hW : Hl g σ24 H locs := by rw [hσ24]; exact hW
      have w24 : σ24 (A 6) = some (eI g 3 60 (fun x9 => nI ((va_up (ar 6) n c) x9))) := by rw [hσ24]; exact sset_eq
      have f25 : σ24 m = some (.inr (7, [.ref (A 0), .ref (A 1), .ref (A 2), .int (iv 3), .ref (A 3), .int (iv 5), .ref (A 4), .ref (A 5), .int (iv 8), .ref (A 6), .int (nI (n + 1)), .int (iv 11), .ref wd, .ref (A 7), .int (iv 14), .int (iv 15), .int (iv 16), .int (nI 0)])) := by rw [hσ24, sset_ne (sto_ne f22 w15 (by simp))]; exact w15
      have f26 : σ24 (A 0) = some (eI g 0 114 (fun x9 => nI ((ar 0) x9))) := by rw [hσ24, sset_ne (fun q9 => absurd (tii 0 6 (by decide) (by decide) q9) (by decide))]; exact f16
      have f27 : σ24 (A 1) = some (eI g 0 114 (fun x9 => nI ((ar 1) x9))) := by rw [hσ24, sset_ne (fun q9 => absurd (tii 1 6 (by decide) (by decide) q9) (by decide))]; exact f17
      have f28 : σ24 (A 2) = some (eI g 0 912 (fun x9 => nI ((ar 2) x9))) := by rw [hσ24, sset_ne (fun q9 => absurd (tii 2 6 (by decide) (by decide) q9) (by decide))]; exact f18
      have f29 : σ24 (A 3) = some (eI g 0 114 (fun x9 => nI ((ar 3) x9))) := by rw [hσ24, sset_ne (fun q9 => absurd (tii 3 6 (by decide) (by decide) q9) (by decide))]; exact f19
      have f30 : σ24 (A 4) = some (eI g 2 2048 (fun x9 => bI (rb x9))) := by rw [hσ24, sset_ne (fun q9 => absurd (tii 4 6 (by decide) (by decide) q9) (by decide))]; exact f20
      have f31 : σ24 (A 5) = some (eI g 3 60 (fun x9 => nI ((ar 5) x9))) := by rw [hσ24, sset_ne (fun q9 => absurd (tii 5 6 (by decide) (by decide) q9) (by decide))]; exact f21
      have f32 : σ24 (A 7) = some (eI g 0 3 (fun x9 => nI ((ar 7) x9))) := by rw [hσ24, sset_ne (fun q9 => absurd (tii 7 6 (by decide) (by decide) q9) (by decide))]; exact f23
      refine lv_aload_n F.x F.cd dX3_type_54 rfl (lv_at hl 0 rfl) ?_
      refine s_get F hW (ci := 7) (C := RX3) (T := TX3) (N := 18) (v := .int (nI (n + 1))) (f25) rfl in_X3 10 (by decide) q2289 (fun _ h9 => h9) rfl dX3_type_55 ?_
      have tw33 : IsTw g σ24 m A (va_up (va_up iv 10 (nI (n + 1))) 17 (nI 0)) wd (va_up ar 6 (va_up (ar 6) n c)) rb := ⟨f25, tb0, f26, f27, f28, f29, f30, f31, w24, f32, tbb, tii⟩
      have fm33 : Fm σ σ24 m A := by rw [hσ24, hσ15]; exact ((fm12).setM).setA 6 (by decide)
      subst hQ
      exact s_reti (v := (nI (n + 1))) F hW rfl (Or.inr (Or.inr ⟨c_13, by omega, rfl, tw33, fm33⟩)) ⟨(Nat.le_of_ble_eq_true rfl), (Nat.le_of_ble_eq_true rfl)⟩ dX3_type_58
    · refine lv_aload_n F.x F.cd dX3_type_31 rfl (lv_at hl 0 rfl) ?_
      refine lv_iconst (v := (nI 2)) F.x F.cd dX3_type_32 (by decide) ?_
      refine s_callV (As := [.int (nI 2)]) (rest := []) (C := RX3) (T := TX3) (N := 18) (n := 1) F hW (k_X3_raises g l σ2 m A _ _ _ _ (nI 2) tw_13 ) (t0_13) rfl q2362 q2364 qs37 q79 q2365 rfl (by decide +kernel) rfl ⟨⟨Nat.le_of_ble_eq_true rfl, Nat.le_of_ble_eq_true rfl⟩, ⟨(Nat.le_of_ble_eq_true rfl), (Nat.le_of_ble_eq_true rfl)⟩⟩ (Nat.le_of_ble_eq_true rfl) hl.1 rfl dX3_type_33 cX_no (fun r34 σ34 H locs hp34 hW => ?_)
      obtain ⟨rfl, tv34, fv34⟩ := hp34
      refine W.eq (g2 := F0 m_ 36 ls (.int (nI 0) :: [])) rfl ?_
      obtain ⟨t0_35, -, ta0_35, ta1_35, ta2_35, ta3_35, ta4_35, ta5_35, ta6_35, ta7_35, -, -⟩ := id tv34
      have fm_35 : Fm σ σ34 m A := (fm12).trans fv34
      have tw_35 : IsTw g σ34 m A (va_up (va_up iv 10 (nI n)) 17 (nI 2)) wd ar rb := ⟨t0_35, tb0, ta0_35, ta1_35, ta2_35, ta3_35, ta4_35, ta5_35, ta6_35, ta7_35, tbb, tii⟩
      subst hQ
      exact s_reti (v := (nI 0)) F hW rfl (Or.inr (Or.inl ⟨c_13, by omega, rfl, (by have e9 := tw_35; rw [va_up_same h10] at e9; exact e9), fm_35⟩)) ⟨(Nat.le_of_ble_eq_true rfl), (Nat.le_of_ble_eq_true rfl)⟩ dX3_type_36
  · refine lv_aload_n F.x F.cd dX3_type_16 rfl (lv_at hl 0 rfl) ?_
    refine lv_iconst (v := (nI 1)) F.x F.cd dX3_type_17 (by decide) ?_
    have tw36 : IsTw g σ2 m A (va_up iv 17 (nI 0)) wd ar rb := ⟨w2, tb0, f3, f4, f5, f6, f7, f8, f9, f10, tbb, tii⟩
    have fm36 : Fm σ σ2 m A := by rw [hσ2]; exact (Fm.refl).setM
    refine s_callV (As := [.int (nI 1)]) (rest := []) (C := RX3) (T := TX3) (N := 18) (n := 1) F hW (k_X3_raises g l σ2 m A _ _ _ _ (nI 1) tw36 ) (w2) rfl q2362 q2364 qs37 q79 q2365 rfl (by decide +kernel) rfl ⟨⟨Nat.le_of_ble_eq_true rfl, Nat.le_of_ble_eq_true rfl⟩, ⟨(Nat.le_of_ble_eq_true rfl), (Nat.le_of_ble_eq_true rfl)⟩⟩ (Nat.le_of_ble_eq_true rfl) hl.1 rfl dX3_type_18 cX_no (fun r37 σ37 H locs hp37 hW => ?_)
    obtain ⟨rfl, tv37, fv37⟩ := hp37
    refine W.eq (g2 := F0 m_ 21 ls (.int (nI 0) :: [])) rfl ?_
    obtain ⟨t0_38, -, ta0_38, ta1_38, ta2_38, ta3_38, ta4_38, ta5_38, ta6_38, ta7_38, -, -⟩ := id tv37
    have fm_38 : Fm σ σ37 m A := (fm36).trans fv37
    have tw_38 : IsTw g σ37 m A (va_up iv 17 (nI 1)) wd ar rb := ⟨t0_38, tb0, ta0_38, ta1_38, ta2_38, ta3_38, ta4_38, ta5_38, ta6_38, ta7_38, tbb, tii⟩
    subst hQ
    exact s_reti (v := (nI 0)) F hW rfl (Or.inl ⟨c_13, rfl, tw_38, fm_38⟩) ⟨(Nat.le_of_ble_eq_true rfl), (Nat.le_of_ble_eq_true rfl)⟩ dX3_type_21
set_option maxHeartbeats 4000000 in
theorem k_X3_hasImpurity (g : Gh) (l : Launch) (σ : Sto) (m : Nat) (A : Nat → Nat) (iv : Nat → Int32) (wd : Nat) (ar : Nat → Nat → Nat) (rb : Nat → Bool) (x : Int32) (c : Nat) (hw : IsTw g σ m A iv wd ar rb) (hI : Inv (ar 0)) (hc : c < 65536) : Ct g l yX3_hasImpurity cX3_hasImpurity 4 (some .boolean) ({ frames := 3, cells := 0, slots := 0, locals := 65 } : Room) [.ref m, .int x, .int (nI c)] σ (fun r σ' => (∃ i, i < ar 0 0 ∧ x = nI i ∧ btw (nI c) (nI 97) (nI 104) = true ∧ r = some (.int (bI (hasB (tI (ar 0) i) c))) ∧ IsTw g σ' m A (va_up iv 17 (nI 0)) wd ar rb ∧ Fm σ σ' m A) ∨ (∃ i, i < ar 0 0 ∧ x = nI i ∧ btw (nI c) (nI 97) (nI 104) = false ∧ r = some (.int (bI false)) ∧ IsTw g σ' m A (va_up iv 17 (nI 2)) wd ar rb ∧ Fm σ σ' m A) ∨ (inN x (ar 0 0) = false ∧ r = some (.int (bI false)) ∧ IsTw g σ' m A (va_up iv 17 (nI 1)) wd ar rb ∧ Fm σ σ' m A)) (nox) := by
  refine Ct.body (by decide) (Nat.le_of_ble_eq_true rfl) ?_
  intro p_ e_ s_ m_ args_ below_ meth_ c_ ls H locs Q F hW hl hQ
  have hl : lv_has ls 4 [(0, .ref m), (1, .int x), (2, .int (nI c))] := hl
  obtain ⟨t0, tb0, ta0, ta1, ta2, ta3, ta4, ta5, ta6, ta7, tbb, tii⟩ := id hw
  have hv0 := hI.1
  have hv1 := hI.2.1
  refine lv_aload_n F.x F.cd dX3_hasImpurity_0 rfl (lv_at hl 0 rfl) ?_
  refine lv_iload_n F.x F.cd dX3_hasImpurity_1 rfl (lv_at hl 1 rfl) ?_
  refine lv_iconst (v := (nI 2)) F.x F.cd dX3_hasImpurity_2 (by decide) ?_
  refine s_callV (As := [.int x, .int (nI 2)]) (rest := []) (C := RX3) (T := TX3) (N := 18) (n := 2) F hW (k_X3_ofTank g l σ m A _ _ _ _ x 2 hw hI (by omega)) (t0) rfl q2460 q2462 qs50 q79 q2463 rfl (by decide +kernel) rfl ⟨⟨Nat.le_of_ble_eq_true rfl, Nat.le_of_ble_eq_true rfl⟩, ⟨(Nat.le_of_ble_eq_true rfl), (Nat.le_of_ble_eq_true rfl)⟩⟩ (Nat.le_of_ble_eq_true rfl) hl.1 rfl dX3_hasImpurity_3 cX_no (fun r1 σ1 H locs hp1 hW => ?_)
  rcases hp1 with ⟨i1, hi1, rfl, rfl, tv1, fv1⟩ | ⟨hz1, rfl, tv1, fv1⟩
  · have hi1 : i1 < (ar 0) 0 := hi1
    refine W.eq (g2 := F0 m_ 6 ls (.int (nI (tI (ar 0) i1)) :: [])) rfl ?_
    obtain ⟨t0_2, -, ta0_2, ta1_2, ta2_2, ta3_2, ta4_2, ta5_2, ta6_2, ta7_2, -, -⟩ := id tv1
    have fm_2 : Fm σ σ1 m A := (Fm.refl).trans fv1
    have tw_2 : IsTw g σ1 m A (va_up iv 17 (nI 0)) wd ar rb := ⟨t0_2, tb0, ta0_2, ta1_2, ta2_2, ta3_2, ta4_2, ta5_2, ta6_2, ta7_2, tbb, tii⟩
    refine lv_istore_n (lv' := [(3, .int (nI (tI (ar 0) i1))), (0, .ref m), (1, .int (nI i1)), (2, .int (nI c))]) F.x F.cd dX3_hasImpurity_6 rfl hl (by decide) rfl (fun ls hl => ?_)
    refine lv_aload_n F.x F.cd dX3_hasImpurity_7 rfl (lv_at hl 1 rfl) ?_
    refine s_get F hW (ci := 7) (C := RX3) (T := TX3) (N := 18) (v := .int (nI 0)) (t0_2) rfl in_X3 17 (by decide) q2296 (fun _ h9 => h9) rfl dX3_hasImpurity_8 ?_
    refine n_if_ne (a := 0) (tgt := 30) F (by omega) dX3_hasImpurity_11 (by decide) (fun c_11 => absurd (by decide) c_11) (fun c_11 => ?_)
    refine lv_iload_n F.x F.cd dX3_hasImpurity_14 rfl (lv_at hl 3 rfl) ?_
    refine lv_bipush (v := (nI 97)) F.x F.cd dX3_hasImpurity_15 (by decide) ?_
    refine lv_bipush (v := (nI 104)) F.x F.cd dX3_hasImpurity_17 (by decide) ?_
    refine s_callS (As := [.int (nI c), .int (nI 97), .int (nI 104)]) (rest := []) (n := 3) F hW (k_X3_in g l σ1 (nI c) (nI 97) (nI 104)) q2351 q2352 q79 q2353 (by decide +kernel) rfl ⟨⟨Nat.le_of_ble_eq_true rfl, Nat.le_of_ble_eq_true rfl⟩, ⟨(Nat.le_of_ble_eq_true rfl), (Nat.le_of_ble_eq_true rfl)⟩⟩ (Nat.le_of_ble_eq_true rfl) hl.1 rfl dX3_hasImpurity_19 cX_no (fun r3 σ3 H locs hp3 hW => ?_)
    obtain ⟨rfl, hs3⟩ := hp3
    rw [hs3] at hW
    refine W.eq (g2 := F0 m_ 22 ls (.int (bI (btw (nI c) (nI 97) (nI 104))) :: [])) rfl ?_
    refine b_if_ne (b := (btw (nI c) (nI 97) (nI 104))) (tgt := 30) F dX3_hasImpurity_22 (by decide) (fun c_22 => ?_) (fun c_22 => ?_)
    · refine lv_aload_n F.x F.cd dX3_hasImpurity_30 rfl (lv_at hl 1 rfl) ?_
      refine s_get F hW (ci := 7) (C := RX3) (T := TX3) (N := 18) (v := .int (nI 0)) (t0_2) rfl in_X3 17 (by decide) q2296 (fun _ h9 => h9) rfl dX3_hasImpurity_31 ?_
      refine n_if_ne (a := 0) (tgt := 53) F (by omega) dX3_hasImpurity_34 (by decide) (fun c_34 => absurd (by decide) c_34) (fun c_34 => ?_)
      refine lv_iload_n F.x F.cd dX3_hasImpurity_37 rfl (lv_at hl 0 rfl) ?_
      refine lv_iload_n F.x F.cd dX3_hasImpurity_38 rfl (lv_at hl 3 rfl) ?_
      refine lv_bipush (v := (nI 97)) F.x F.cd dX3_hasImpurity_39 (by decide) ?_
      refine a_isub (v := (nI c - nI 97)) F (rfl) dX3_hasImpurity_41 ?_
      refine a_ishr (v := ((nI (tI (ar 0) i1)) >>> ((nI c - nI 97) &&& 31))) F (rfl) dX3_hasImpurity_42 ?_
      refine lv_iconst (v := (nI 1)) F.x F.cd dX3_hasImpurity_43 (by decide) ?_
      refine a_iand (v := (((nI (tI (ar 0) i1)) >>> ((nI c - nI 97) &&& 31)) &&& (nI 1))) F (rfl) dX3_hasImpurity_44 ?_
      refine lv_iconst (v := (nI 1)) F.x F.cd dX3_hasImpurity_45 (by decide) ?_
      refine lv_icmp_ne (x := (((nI (tI (ar 0) i1)) >>> ((nI c - nI 97) &&& 31)) &&& (nI 1))) (y := (nI 1)) (tgt := 53) F.x F.cd dX3_hasImpurity_46 (by decide) (fun c_46 => ?_) (fun c_46 => ?_)
      · refine lv_iconst (v := (nI 0)) F.x F.cd dX3_hasImpurity_53 (by decide) ?_
        subst hQ
        exact s_reti (v := (nI 0)) F hW (by decide) (Or.inl ⟨i1, hi1, rfl, c_22, by rw [show hasB (tI (ar 0) i1) c = false from decide_eq_false c_46]; rfl, tw_2, fm_2⟩) ⟨(Nat.le_of_ble_eq_true rfl), (Nat.le_of_ble_eq_true rfl)⟩ dX3_hasImpurity_54
      · refine lv_iconst (v := (nI 1)) F.x F.cd dX3_hasImpurity_49 (by decide) ?_
        refine lv_goto (tgt := 54) F.x F.cd dX3_hasImpurity_50 (by decide) ?_
        subst hQ
        exact s_reti (v := (nI 1)) F hW (by decide) (Or.inl ⟨i1, hi1, rfl, c_22, by rw [show hasB (tI (ar 0) i1) c = true from decide_eq_true c_46]; rfl, tw_2, fm_2⟩) ⟨(Nat.le_of_ble_eq_true rfl), (Nat.le_of_ble_eq_true rfl)⟩ dX3_hasImpurity_54
    · refine lv_aload_n F.x F.cd dX3_hasImpurity_25 rfl (lv_at hl 1 rfl) ?_
      refine lv_iconst (v := (nI 2)) F.x F.cd dX3_hasImpurity_26 (by decide) ?_
      refine s_put F hW (ci := 7) (C := RX3) (T := TX3) (N := 18) (v := .int (nI 2)) (ty := .int) (t0_2) (tb0) rfl in_X3 tyX3_ok nmX3 17 (by decide) q2296 (fun _ h9 => h9) rfl (by decide +kernel) rfl rfl (Nat.le_of_ble_eq_true rfl) dX3_hasImpurity_27 (fun H locs hW => ?_)
      obtain ⟨σ5, hσ5⟩ : ∃ z, z = sset σ1 m (.inr (7, [.ref (A 0), .ref (A 1), .ref (A 2), .int (iv 3), .ref (A 3), .int (iv 5), .ref (A 4), .ref (A 5), .int (iv 8), .ref (A 6), .int (iv 10), .int (iv 11), .ref wd, .ref (A 7), .int (iv 14), .int (iv 15), .int (iv 16), .int (nI 2)])) := ⟨_, rfl⟩
      have hW : Hl g σ5 H locs := by rw [hσ5]; exact hW
      have w5 : σ5 m = some (.inr (7, [.ref (A 0), .ref (A 1), .ref (A 2), .int (iv 3), .ref (A 3), .int (iv 5), .ref (A 4), .ref (A 5), .int (iv 8), .ref (A 6), .int (iv 10), .int (iv 11), .ref wd, .ref (A 7), .int (iv 14), .int (iv 15), .int (iv 16), .int (nI 2)])) := by rw [hσ5]; exact sset_eq
      have f6 : σ5 (A 0) = some (eI g 0 114 (fun x9 => nI ((ar 0) x9))) := by rw [hσ5, sset_ne (sto_ne t0_2 ta0_2 (by simp))]; exact ta0_2
      have f7 : σ5 (A 1) = some (eI g 0 114 (fun x9 => nI ((ar 1) x9))) := by rw [hσ5, sset_ne (sto_ne t0_2 ta1_2 (by simp))]; exact ta1_2
      have f8 : σ5 (A 2) = some (eI g 0 912 (fun x9 => nI ((ar 2) x9))) := by rw [hσ5, sset_ne (sto_ne t0_2 ta2_2 (by simp))]; exact ta2_2
      have f9 : σ5 (A 3) = some (eI g 0 114 (fun x9 => nI ((ar 3) x9))) := by rw [hσ5, sset_ne (sto_ne t0_2 ta3_2 (by simp))]; exact ta3_2
      have f10 : σ5 (A 4) = some (eI g 2 2048 (fun x9 => bI (rb x9))) := by rw [hσ5, sset_ne (sto_ne t0_2 ta4_2 (by simp))]; exact ta4_2
      have f11 : σ5 (A 5) = some (eI g 3 60 (fun x9 => nI ((ar 5) x9))) := by rw [hσ5, sset_ne (sto_ne t0_2 ta5_2 (by simp))]; exact ta5_2
      have f12 : σ5 (A 6) = some (eI g 3 60 (fun x9 => nI ((ar 6) x9))) := by rw [hσ5, sset_ne (sto_ne t0_2 ta6_2 (by simp))]; exact ta6_2
      have f13 : σ5 (A 7) = some (eI g 0 3 (fun x9 => nI ((ar 7) x9))) := by rw [hσ5, sset_ne (sto_ne t0_2 ta7_2 (by simp))]; exact ta7_2
      refine lv_aload_n F.x F.cd dX3_hasImpurity_30 rfl (lv_at hl 1 rfl) ?_
      refine s_get F hW (ci := 7) (C := RX3) (T := TX3) (N := 18) (v := .int (nI 2)) (w5) rfl in_X3 17 (by decide) q2296 (fun _ h9 => h9) rfl dX3_hasImpurity_31 ?_
      refine n_if_ne (a := 2) (tgt := 53) F (by omega) dX3_hasImpurity_34 (by decide) (fun c_34 => ?_) (fun c_34 => absurd c_34 (by decide))
      refine lv_iconst (v := (nI 0)) F.x F.cd dX3_hasImpurity_53 (by decide) ?_
      have tw14 : IsTw g σ5 m A (va_up iv 17 (nI 2)) wd ar rb := ⟨w5, tb0, f6, f7, f8, f9, f10, f11, f12, f13, tbb, tii⟩
      have fm14 : Fm σ σ5 m A := by rw [hσ5]; exact (fm_2).setM
      subst hQ
      exact s_reti (v := (nI 0)) F hW (by decide) (Or.inr (Or.inl ⟨i1, hi1, rfl, c_22, rfl, tw14, fm14⟩)) ⟨(Nat.le_of_ble_eq_true rfl), (Nat.le_of_ble_eq_true rfl)⟩ dX3_hasImpurity_54
  · have hz1 : inN x ((ar 0) 0) = false := hz1
    refine W.eq (g2 := F0 m_ 6 ls (.int (nI 0) :: [])) rfl ?_
    obtain ⟨t0_15, -, ta0_15, ta1_15, ta2_15, ta3_15, ta4_15, ta5_15, ta6_15, ta7_15, -, -⟩ := id tv1
    have fm_15 : Fm σ σ1 m A := (Fm.refl).trans fv1
    have tw_15 : IsTw g σ1 m A (va_up iv 17 (nI 1)) wd ar rb := ⟨t0_15, tb0, ta0_15, ta1_15, ta2_15, ta3_15, ta4_15, ta5_15, ta6_15, ta7_15, tbb, tii⟩
    refine lv_istore_n (lv' := [(3, .int (nI 0)), (0, .ref m), (1, .int x), (2, .int (nI c))]) F.x F.cd dX3_hasImpurity_6 rfl hl (by decide) rfl (fun ls hl => ?_)
    refine lv_aload_n F.x F.cd dX3_hasImpurity_7 rfl (lv_at hl 1 rfl) ?_
    refine s_get F hW (ci := 7) (C := RX3) (T := TX3) (N := 18) (v := .int (nI 1)) (t0_15) rfl in_X3 17 (by decide) q2296 (fun _ h9 => h9) rfl dX3_hasImpurity_8 ?_
    refine n_if_ne (a := 1) (tgt := 30) F (by omega) dX3_hasImpurity_11 (by decide) (fun c_11 => ?_) (fun c_11 => absurd c_11 (by decide))
    refine lv_aload_n F.x F.cd dX3_hasImpurity_30 rfl (lv_at hl 1 rfl) ?_
    refine s_get F hW (ci := 7) (C := RX3) (T := TX3) (N := 18) (v := .int (nI 1)) (t0_15) rfl in_X3 17 (by decide) q2296 (fun _ h9 => h9) rfl dX3_hasImpurity_31 ?_
    refine n_if_ne (a := 1) (tgt := 53) F (by omega) dX3_hasImpurity_34 (by decide) (fun c_34 => ?_) (fun c_34 => absurd c_34 (by decide))
    refine lv_iconst (v := (nI 0)) F.x F.cd dX3_hasImpurity_53 (by decide) ?_
    subst hQ
    exact s_reti (v := (nI 0)) F hW (by decide) (Or.inr (Or.inr ⟨hz1, rfl, tw_15, fm_15⟩)) ⟨(Nat.le_of_ble_eq_true rfl), (Nat.le_of_ble_eq_true rfl)⟩ dX3_hasImpurity_54
set_option maxHeartbeats 4000000 in
theorem k_X3_tankByContent (g : Gh) (l : Launch) (σ : Sto) (m : Nat) (A : Nat → Nat) (iv : Nat → Int32) (wd : Nat) (ar : Nat → Nat → Nat) (rb : Nat → Bool) (rk : Int32) (hw : IsTw g σ m A iv wd ar rb) (hI : Inv (ar 0)) : Ct g l yX3_tankByContent cX3_tankByContent 6 (some .int) ({ frames := 1, cells := 0, slots := 0, locals := 22 } : Room) [.ref m, .int rk] σ (fun r σ' => (r = some (.int (findT (ar 0) rk 0 (ar 0 0))) ∧ findT (ar 0) rk 0 (ar 0 0) ≠ -1 ∧ IsTw g σ' m A (va_up iv 17 (nI 0)) wd ar rb ∧ Fm σ σ' m A) ∨ (findT (ar 0) rk 0 (ar 0 0) = -1 ∧ r = some (.int (nI 0)) ∧ IsTw g σ' m A (va_up iv 17 (nI 1)) wd ar rb ∧ Fm σ σ' m A)) (nox) := by
  refine Ct.body (by decide) (Nat.le_of_ble_eq_true rfl) ?_
  intro p_ e_ s_ m_ args_ below_ meth_ c_ ls H locs Q F hW hl hQ
  have hl : lv_has ls 6 [(0, .ref m), (1, .int rk)] := hl
  obtain ⟨t0, tb0, ta0, ta1, ta2, ta3, ta4, ta5, ta6, ta7, tbb, tii⟩ := id hw
  have hv0 := hI.1
  have hv1 := hI.2.1
  refine lv_aload_n F.x F.cd dX3_tankByContent_0 rfl (lv_at hl 0 rfl) ?_
  refine lv_iconst (v := (nI 0)) F.x F.cd dX3_tankByContent_1 (by decide) ?_
  refine s_put F hW (ci := 7) (C := RX3) (T := TX3) (N := 18) (v := .int (nI 0)) (ty := .int) (t0) (tb0) rfl in_X3 tyX3_ok nmX3 17 (by decide) q2296 (fun _ h9 => h9) rfl (by decide +kernel) rfl rfl (Nat.le_of_ble_eq_true rfl) dX3_tankByContent_2 (fun H locs hW => ?_)
  obtain ⟨σ2, hσ2⟩ : ∃ z, z = sset σ m (.inr (7, [.ref (A 0), .ref (A 1), .ref (A 2), .int (iv 3), .ref (A 3), .int (iv 5), .ref (A 4), .ref (A 5), .int (iv 8), .ref (A 6), .int (iv 10), .int (iv 11), .ref wd, .ref (A 7), .int (iv 14), .int (iv 15), .int (iv 16), .int (nI 0)])) := ⟨_, rfl⟩
  have hW : Hl g σ2 H locs := by rw [hσ2]; exact hW
  have w2 : σ2 m = some (.inr (7, [.ref (A 0), .ref (A 1), .ref (A 2), .int (iv 3), .ref (A 3), .int (iv 5), .ref (A 4), .ref (A 5), .int (iv 8), .ref (A 6), .int (iv 10), .int (iv 11), .ref wd, .ref (A 7), .int (iv 14), .int (iv 15), .int (iv 16), .int (nI 0)])) := by rw [hσ2]; exact sset_eq
  have f3 : σ2 (A 0) = some (eI g 0 114 (fun x9 => nI ((ar 0) x9))) := by rw [hσ2, sset_ne (sto_ne t0 ta0 (by simp))]; exact ta0
  have f4 : σ2 (A 1) = some (eI g 0 114 (fun x9 => nI ((ar 1) x9))) := by rw [hσ2, sset_ne (sto_ne t0 ta1 (by simp))]; exact ta1
  have f5 : σ2 (A 2) = some (eI g 0 912 (fun x9 => nI ((ar 2) x9))) := by rw [hσ2, sset_ne (sto_ne t0 ta2 (by simp))]; exact ta2
  have f6 : σ2 (A 3) = some (eI g 0 114 (fun x9 => nI ((ar 3) x9))) := by rw [hσ2, sset_ne (sto_ne t0 ta3 (by simp))]; exact ta3
  have f7 : σ2 (A 4) = some (eI g 2 2048 (fun x9 => bI (rb x9))) := by rw [hσ2, sset_ne (sto_ne t0 ta4 (by simp))]; exact ta4
  have f8 : σ2 (A 5) = some (eI g 3 60 (fun x9 => nI ((ar 5) x9))) := by rw [hσ2, sset_ne (sto_ne t0 ta5 (by simp))]; exact ta5
  have f9 : σ2 (A 6) = some (eI g 3 60 (fun x9 => nI ((ar 6) x9))) := by rw [hσ2, sset_ne (sto_ne t0 ta6 (by simp))]; exact ta6
  have f10 : σ2 (A 7) = some (eI g 0 3 (fun x9 => nI ((ar 7) x9))) := by rw [hσ2, sset_ne (sto_ne t0 ta7 (by simp))]; exact ta7
  refine lv_iconst (v := (nI 0)) F.x F.cd dX3_tankByContent_5 (by decide) ?_
  refine lv_istore_n (lv' := [(2, .int (nI 0)), (0, .ref m), (1, .int rk)]) F.x F.cd dX3_tankByContent_6 rfl hl (by decide) rfl (fun ls hl => ?_)
  have loop7 : ∀ (n : Nat) (k : Nat), k + n = ar 0 0 → findT (ar 0) rk k n = findT (ar 0) rk 0 (ar 0 0) → ∀ (H : Heap) (locs : List Loc) (ls : Array Slot), Hl g σ2 H locs → lv_has ls 6 [(0, .ref m), (1, .int rk), (2, .int (nI k))] → W p_ l e_ ({ frames := 1, cells := 0, slots := 0, locals := 22 } : Room) s_ m_ args_ below_ meth_ c_ H locs 0 0 Q (F0 m_ 7 ls ([])) := by
    intro n
    induction n with
    | zero =>
      intro k hkn hfd H locs ls hW hl
      refine lv_iload_n F.x F.cd dX3_tankByContent_7 rfl (lv_at hl 2 rfl) ?_
      refine lv_aload_n F.x F.cd dX3_tankByContent_8 rfl (lv_at hl 0 rfl) ?_
      refine s_get F hW (ci := 7) (C := RX3) (T := TX3) (N := 18) (v := .ref (A 0)) (w2) rfl in_X3 0 (by decide) q2279 (fun _ h9 => h9) rfl dX3_tankByContent_9 ?_
      refine lv_iconst (v := (nI 0)) F.x F.cd dX3_tankByContent_12 (by decide) ?_
      refine n_iald (i := 0) (n := 114) (f := (fun x9 => nI ((ar 0) x9))) (x := (nI (ar 0 0))) F hW (f3) (by omega) (by omega) (rfl) dX3_tankByContent_13 ?_
      refine n_icmp_ge (a := k) (b := ar 0 0) (tgt := 114) F (by omega) (by omega) dX3_tankByContent_14 (by decide) (fun c_14 => ?_) (fun c_14 => ?_)
      · refine lv_aload_n F.x F.cd dX3_tankByContent_114 rfl (lv_at hl 0 rfl) ?_
        refine lv_iconst (v := (nI 1)) F.x F.cd dX3_tankByContent_115 (by decide) ?_
        have tw11 : IsTw g σ2 m A (va_up iv 17 (nI 0)) wd ar rb := ⟨w2, tb0, f3, f4, f5, f6, f7, f8, f9, f10, tbb, tii⟩
        have fm11 : Fm σ σ2 m A := by rw [hσ2]; exact (Fm.refl).setM
        refine s_callV (As := [.int (nI 1)]) (rest := []) (C := RX3) (T := TX3) (N := 18) (n := 1) F hW (k_X3_raises g l σ2 m A _ _ _ _ (nI 1) tw11 ) (w2) rfl q2362 q2364 qs37 q79 q2365 rfl (by decide +kernel) rfl ⟨⟨Nat.le_of_ble_eq_true rfl, Nat.le_of_ble_eq_true rfl⟩, ⟨(Nat.le_of_ble_eq_true rfl), (Nat.le_of_ble_eq_true rfl)⟩⟩ (Nat.le_of_ble_eq_true rfl) hl.1 rfl dX3_tankByContent_116 cX_no (fun r12 σ12 H locs hp12 hW => ?_)
        obtain ⟨rfl, tv12, fv12⟩ := hp12
        refine W.eq (g2 := F0 m_ 119 ls (.int (nI 0) :: [])) rfl ?_
        obtain ⟨t0_13, -, ta0_13, ta1_13, ta2_13, ta3_13, ta4_13, ta5_13, ta6_13, ta7_13, -, -⟩ := id tv12
        have fm_13 : Fm σ σ12 m A := (fm11).trans fv12
        have tw_13 : IsTw g σ12 m A (va_up iv 17 (nI 1)) wd ar rb := ⟨t0_13, tb0, ta0_13, ta1_13, ta2_13, ta3_13, ta4_13, ta5_13, ta6_13, ta7_13, tbb, tii⟩
        subst hQ
        exact s_reti (v := (nI 0)) F hW rfl (Or.inr ⟨by rw [← hfd]; rfl, rfl, tw_13, fm_13⟩) ⟨(Nat.le_of_ble_eq_true rfl), (Nat.le_of_ble_eq_true rfl)⟩ dX3_tankByContent_119
      · exact absurd c_14 (by omega)
    | succ n ih7 =>
      intro k hkn hfd H locs ls hW hl
      refine lv_iload_n F.x F.cd dX3_tankByContent_7 rfl (lv_at hl 2 rfl) ?_
      refine lv_aload_n F.x F.cd dX3_tankByContent_8 rfl (lv_at hl 0 rfl) ?_
      refine s_get F hW (ci := 7) (C := RX3) (T := TX3) (N := 18) (v := .ref (A 0)) (w2) rfl in_X3 0 (by decide) q2279 (fun _ h9 => h9) rfl dX3_tankByContent_9 ?_
      refine lv_iconst (v := (nI 0)) F.x F.cd dX3_tankByContent_12 (by decide) ?_
      refine n_iald (i := 0) (n := 114) (f := (fun x9 => nI ((ar 0) x9))) (x := (nI (ar 0 0))) F hW (f3) (by omega) (by omega) (rfl) dX3_tankByContent_13 ?_
      refine n_icmp_ge (a := k) (b := ar 0 0) (tgt := 114) F (by omega) (by omega) dX3_tankByContent_14 (by decide) (fun c_14 => ?_) (fun c_14 => ?_)
      · exact absurd c_14 (by omega)
      · refine lv_iconst (v := (nI 0)) F.x F.cd dX3_tankByContent_17 (by decide) ?_
        refine lv_istore_n (lv' := [(3, .int (nI 0)), (0, .ref m), (1, .int rk), (2, .int (nI k))]) F.x F.cd dX3_tankByContent_18 rfl hl (by decide) rfl (fun ls hl => ?_)
        refine lv_iconst (v := (nI 0)) F.x F.cd dX3_tankByContent_19 (by decide) ?_
        refine lv_istore (lv' := [(4, .int (nI 0)), (3, .int (nI 0)), (0, .ref m), (1, .int rk), (2, .int (nI k))]) F.x F.cd dX3_tankByContent_20 hl (by decide) rfl (fun ls hl => ?_)
        have loop22 : ∀ (z : Nat) (j : Nat), j + z = ar 0 0 → ∀ (H : Heap) (locs : List Loc) (ls : Array Slot), Hl g σ2 H locs → lv_has ls 6 [(0, .ref m), (1, .int rk), (2, .int (nI k)), (3, .int (nI (aheadN (ar 0) k j))), (4, .int (nI j))] → W p_ l e_ ({ frames := 1, cells := 0, slots := 0, locals := 22 } : Room) s_ m_ args_ below_ meth_ c_ H locs 0 0 Q (F0 m_ 22 ls ([])) := by
          intro z
          induction z with
          | zero =>
            intro j hkz  H locs ls hW hl
            refine lv_iload F.x F.cd dX3_tankByContent_22 (lv_at hl 4 rfl) ?_
            refine lv_aload_n F.x F.cd dX3_tankByContent_24 rfl (lv_at hl 0 rfl) ?_
            refine s_get F hW (ci := 7) (C := RX3) (T := TX3) (N := 18) (v := .ref (A 0)) (w2) rfl in_X3 0 (by decide) q2279 (fun _ h9 => h9) rfl dX3_tankByContent_25 ?_
            refine lv_iconst (v := (nI 0)) F.x F.cd dX3_tankByContent_28 (by decide) ?_
            refine n_iald (i := 0) (n := 114) (f := (fun x9 => nI ((ar 0) x9))) (x := (nI (ar 0 0))) F hW (f3) (by omega) (by omega) (rfl) dX3_tankByContent_29 ?_
            refine n_icmp_ge (a := j) (b := ar 0 0) (tgt := 101) F (by omega) (by omega) dX3_tankByContent_30 (by decide) (fun c_30 => ?_) (fun c_30 => ?_)
            · have hj : j = ar 0 0 := by omega
              refine lv_iload_n F.x F.cd dX3_tankByContent_101 rfl (lv_at hl 3 rfl) ?_
              refine lv_iload_n F.x F.cd dX3_tankByContent_102 rfl (lv_at hl 1 rfl) ?_
              refine lv_icmp_ne (x := (nI (aheadN (ar 0) k j))) (y := rk) (tgt := 108) F.x F.cd dX3_tankByContent_103 (by decide) (fun c_103 => ?_) (fun c_103 => ?_)
              · refine lv_iinc (k := 2) (v := (nI (k + 1))) (lv' := [(2, .int (nI (k + 1))), (0, .ref m), (1, .int rk), (3, .int (nI (aheadN (ar 0) k j))), (4, .int (nI j))]) F.x F.cd dX3_tankByContent_108 hl rfl (inc_nI k 1) (by decide) rfl (fun ls hl => ?_)
                refine lv_goto (tgt := 7) F.x F.cd dX3_tankByContent_111 (by decide) ?_
                exact ih7 (k + 1) (by omega) (by rw [← hfd]; exact (if_neg (by rw [← hj]; exact c_103)).symm) H locs ls hW (lv_sub hl [1, 2, 0] rfl)
              · refine lv_iload_n F.x F.cd dX3_tankByContent_106 rfl (lv_at hl 2 rfl) ?_
                have tw14 : IsTw g σ2 m A (va_up iv 17 (nI 0)) wd ar rb := ⟨w2, tb0, f3, f4, f5, f6, f7, f8, f9, f10, tbb, tii⟩
                have fm14 : Fm σ σ2 m A := by rw [hσ2]; exact (Fm.refl).setM
                have hz : findT (ar 0) rk 0 (ar 0 0) = nI k := by rw [← hfd]; exact if_pos (by rw [← hj]; exact c_103)
                subst hQ
                exact s_reti (v := (nI k)) F hW rfl (Or.inl ⟨by rw [hz], by rw [hz]; exact nI_neg (by omega), tw14, fm14⟩) ⟨(Nat.le_of_ble_eq_true rfl), (Nat.le_of_ble_eq_true rfl)⟩ dX3_tankByContent_107
            · exact absurd c_30 (by omega)
          | succ z ih22 =>
            intro j hkz  H locs ls hW hl
            refine lv_iload F.x F.cd dX3_tankByContent_22 (lv_at hl 4 rfl) ?_
            refine lv_aload_n F.x F.cd dX3_tankByContent_24 rfl (lv_at hl 0 rfl) ?_
            refine s_get F hW (ci := 7) (C := RX3) (T := TX3) (N := 18) (v := .ref (A 0)) (w2) rfl in_X3 0 (by decide) q2279 (fun _ h9 => h9) rfl dX3_tankByContent_25 ?_
            refine lv_iconst (v := (nI 0)) F.x F.cd dX3_tankByContent_28 (by decide) ?_
            refine n_iald (i := 0) (n := 114) (f := (fun x9 => nI ((ar 0) x9))) (x := (nI (ar 0 0))) F hW (f3) (by omega) (by omega) (rfl) dX3_tankByContent_29 ?_
            refine n_icmp_ge (a := j) (b := ar 0 0) (tgt := 101) F (by omega) (by omega) dX3_tankByContent_30 (by decide) (fun c_30 => ?_) (fun c_30 => ?_)
            · exact absurd c_30 (by omega)
            · have htj := hI.tk (t := j) (by omega)
              have htk := hI.tk (t := k) (by omega)
              have hpj := pops_lt (tI (ar 0) j) (by omega)
              have hpk := pops_lt (tI (ar 0) k) (by omega)
              have hm51 := nsub_eq0 (a := tK (ar 0) j) (b := tK (ar 0) k) (by omega) (by omega)
              refine lv_aload_n F.x F.cd dX3_tankByContent_33 rfl (lv_at hl 0 rfl) ?_
              refine lv_iload F.x F.cd dX3_tankByContent_34 (lv_at hl 4 rfl) ?_
              refine lv_iconst (v := (nI 1)) F.x F.cd dX3_tankByContent_36 (by decide) ?_
              have tw15 : IsTw g σ2 m A (va_up iv 17 (nI 0)) wd ar rb := ⟨w2, tb0, f3, f4, f5, f6, f7, f8, f9, f10, tbb, tii⟩
              have fm15 : Fm σ σ2 m A := by rw [hσ2]; exact (Fm.refl).setM
              refine s_callV (As := [.int (nI j), .int (nI 1)]) (rest := []) (C := RX3) (T := TX3) (N := 18) (n := 2) F hW (k_X3_tank g l σ2 m A _ _ _ _ j 1 tw15 (by omega) (by omega)) (w2) rfl q2438 q2440 qs49 q79 q2441 rfl (by decide +kernel) rfl ⟨⟨Nat.le_of_ble_eq_true rfl, Nat.le_of_ble_eq_true rfl⟩, ⟨(Nat.le_of_ble_eq_true rfl), (Nat.le_of_ble_eq_true rfl)⟩⟩ (Nat.le_of_ble_eq_true rfl) hl.1 rfl dX3_tankByContent_37 cX_no (fun r16 σ16 H locs hp16 hW => ?_)
              obtain ⟨rfl, hs16⟩ := hp16
              rw [hs16] at hW
              refine W.eq (g2 := F0 m_ 40 ls (.int (nI (tK (ar 0) j)) :: [])) rfl ?_
              refine lv_aload_n F.x F.cd dX3_tankByContent_40 rfl (lv_at hl 0 rfl) ?_
              refine lv_iload_n F.x F.cd dX3_tankByContent_41 rfl (lv_at hl 2 rfl) ?_
              refine lv_iconst (v := (nI 1)) F.x F.cd dX3_tankByContent_42 (by decide) ?_
              refine s_callV (As := [.int (nI k), .int (nI 1)]) (rest := [.int (nI (tK (ar 0) j))]) (C := RX3) (T := TX3) (N := 18) (n := 2) F hW (k_X3_tank g l σ2 m A _ _ _ _ k 1 tw15 (by omega) (by omega)) (w2) rfl q2438 q2440 qs49 q79 q2441 rfl (by decide +kernel) rfl ⟨⟨Nat.le_of_ble_eq_true rfl, Nat.le_of_ble_eq_true rfl⟩, ⟨(Nat.le_of_ble_eq_true rfl), (Nat.le_of_ble_eq_true rfl)⟩⟩ (Nat.le_of_ble_eq_true rfl) hl.1 rfl dX3_tankByContent_43 cX_no (fun r17 σ17 H locs hp17 hW => ?_)
              obtain ⟨rfl, hs17⟩ := hp17
              rw [hs17] at hW
              refine W.eq (g2 := F0 m_ 46 ls (.int (nI (tK (ar 0) k)) :: .int (nI (tK (ar 0) j)) :: [])) rfl ?_
              refine a_isub (v := ((nI (tK (ar 0) j)) - (nI (tK (ar 0) k)))) F (rfl) dX3_tankByContent_46 ?_
              refine lv_istore (lv' := [(5, .int ((nI (tK (ar 0) j)) - (nI (tK (ar 0) k)))), (0, .ref m), (1, .int rk), (2, .int (nI k)), (3, .int (nI (aheadN (ar 0) k j))), (4, .int (nI j))]) F.x F.cd dX3_tankByContent_47 hl (by decide) rfl (fun ls hl => ?_)
              refine lv_iload F.x F.cd dX3_tankByContent_49 (lv_at hl 0 rfl) ?_
              refine lv_if_ne (x := ((nI (tK (ar 0) j)) - (nI (tK (ar 0) k)))) (tgt := 76) F.x F.cd dX3_tankByContent_51 (by decide) (fun c_51 => ?_) (fun c_51 => ?_)
              · rw [hm51] at c_51
                have hm78 := nsub_pos (a := tK (ar 0) j) (b := tK (ar 0) k) (by omega) (by omega)
                have hm83 := nsub_eq0 (a := tK (ar 0) j) (b := tK (ar 0) k) (by omega) (by omega)
                refine lv_iload F.x F.cd dX3_tankByContent_76 (lv_at hl 0 rfl) ?_
                refine lv_if_gt (x := ((nI (tK (ar 0) j)) - (nI (tK (ar 0) k)))) (tgt := 92) F.x F.cd dX3_tankByContent_78 (by decide) (fun c_78 => ?_) (fun c_78 => ?_)
                · refine lv_iinc (k := 4) (v := (nI (aheadN (ar 0) k j + 1))) (lv' := [(3, .int (nI (aheadN (ar 0) k j + 1))), (5, .int ((nI (tK (ar 0) j)) - (nI (tK (ar 0) k)))), (0, .ref m), (1, .int rk), (2, .int (nI k)), (4, .int (nI j))]) F.x F.cd dX3_tankByContent_92 hl rfl (inc_nI (aheadN (ar 0) k j) 1) (by decide) rfl (fun ls hl => ?_)
                  rw [hm78] at c_78
                  have hl : lv_has ls 6 [(3, .int (nI (aheadN (ar 0) k (j + 1)))), (5, .int ((nI (tK (ar 0) j)) - (nI (tK (ar 0) k)))), (0, .ref m), (1, .int rk), (2, .int (nI k)), (4, .int (nI j))] := by rw [show aheadN (ar 0) k (j + 1) = aheadN (ar 0) k j + 1 by rw [aheadN, if_pos (aheadT_iff.mpr (by omega))]]; exact hl
                  refine lv_iinc (k := 5) (v := (nI (j + 1))) (lv' := [(4, .int (nI (j + 1))), (3, .int (nI (aheadN (ar 0) k (j + 1)))), (5, .int ((nI (tK (ar 0) j)) - (nI (tK (ar 0) k)))), (0, .ref m), (1, .int rk), (2, .int (nI k))]) F.x F.cd dX3_tankByContent_95 hl rfl (inc_nI j 1) (by decide) rfl (fun ls hl => ?_)
                  refine lv_goto (tgt := 22) F.x F.cd dX3_tankByContent_98 (by decide) ?_
                  exact ih22 (j + 1) (by omega)  H locs ls hW (lv_sub hl [3, 4, 5, 1, 0] rfl)
                · refine lv_iload F.x F.cd dX3_tankByContent_81 (lv_at hl 0 rfl) ?_
                  refine lv_if_ne (x := ((nI (tK (ar 0) j)) - (nI (tK (ar 0) k)))) (tgt := 95) F.x F.cd dX3_tankByContent_83 (by decide) (fun c_83 => ?_) (fun c_83 => ?_)
                  · rw [hm78] at c_78
                    rw [hm83] at c_83
                    have hl : lv_has ls 6 [(5, .int ((nI (tK (ar 0) j)) - (nI (tK (ar 0) k)))), (0, .ref m), (1, .int rk), (2, .int (nI k)), (3, .int (nI (aheadN (ar 0) k (j + 1)))), (4, .int (nI j))] := by rw [show aheadN (ar 0) k (j + 1) = aheadN (ar 0) k j by rw [aheadN, if_neg (fun h => absurd (aheadT_iff.mp h) (by omega)), Nat.add_zero]]; exact hl
                    refine lv_iinc (k := 5) (v := (nI (j + 1))) (lv' := [(4, .int (nI (j + 1))), (5, .int ((nI (tK (ar 0) j)) - (nI (tK (ar 0) k)))), (0, .ref m), (1, .int rk), (2, .int (nI k)), (3, .int (nI (aheadN (ar 0) k (j + 1))))]) F.x F.cd dX3_tankByContent_95 hl rfl (inc_nI j 1) (by decide) rfl (fun ls hl => ?_)
                    refine lv_goto (tgt := 22) F.x F.cd dX3_tankByContent_98 (by decide) ?_
                    exact ih22 (j + 1) (by omega)  H locs ls hW (lv_sub hl [2, 3, 4, 5, 0] rfl)
                  · refine lv_iload F.x F.cd dX3_tankByContent_86 (lv_at hl 5 rfl) ?_
                    refine lv_iload_n F.x F.cd dX3_tankByContent_88 rfl (lv_at hl 3 rfl) ?_
                    refine n_icmp_ge (a := j) (b := k) (tgt := 95) F (by omega) (by omega) dX3_tankByContent_89 (by decide) (fun c_89 => ?_) (fun c_89 => ?_)
                    · rw [hm78] at c_78
                      rw [hm83] at c_83
                      have hl : lv_has ls 6 [(5, .int ((nI (tK (ar 0) j)) - (nI (tK (ar 0) k)))), (0, .ref m), (1, .int rk), (2, .int (nI k)), (3, .int (nI (aheadN (ar 0) k (j + 1)))), (4, .int (nI j))] := by rw [show aheadN (ar 0) k (j + 1) = aheadN (ar 0) k j by rw [aheadN, if_neg (fun h => absurd (aheadT_iff.mp h) (by omega)), Nat.add_zero]]; exact hl
                      refine lv_iinc (k := 5) (v := (nI (j + 1))) (lv' := [(4, .int (nI (j + 1))), (5, .int ((nI (tK (ar 0) j)) - (nI (tK (ar 0) k)))), (0, .ref m), (1, .int rk), (2, .int (nI k)), (3, .int (nI (aheadN (ar 0) k (j + 1))))]) F.x F.cd dX3_tankByContent_95 hl rfl (inc_nI j 1) (by decide) rfl (fun ls hl => ?_)
                      refine lv_goto (tgt := 22) F.x F.cd dX3_tankByContent_98 (by decide) ?_
                      exact ih22 (j + 1) (by omega)  H locs ls hW (lv_sub hl [2, 3, 4, 5, 0] rfl)
                    · refine lv_iinc (k := 4) (v := (nI (aheadN (ar 0) k j + 1))) (lv' := [(3, .int (nI (aheadN (ar 0) k j + 1))), (5, .int ((nI (tK (ar 0) j)) - (nI (tK (ar 0) k)))), (0, .ref m), (1, .int rk), (2, .int (nI k)), (4, .int (nI j))]) F.x F.cd dX3_tankByContent_92 hl rfl (inc_nI (aheadN (ar 0) k j) 1) (by decide) rfl (fun ls hl => ?_)
                      rw [hm78] at c_78
                      rw [hm83] at c_83
                      have hl : lv_has ls 6 [(3, .int (nI (aheadN (ar 0) k (j + 1)))), (5, .int ((nI (tK (ar 0) j)) - (nI (tK (ar 0) k)))), (0, .ref m), (1, .int rk), (2, .int (nI k)), (4, .int (nI j))] := by rw [show aheadN (ar 0) k (j + 1) = aheadN (ar 0) k j + 1 by rw [aheadN, if_pos (aheadT_iff.mpr (by omega))]]; exact hl
                      refine lv_iinc (k := 5) (v := (nI (j + 1))) (lv' := [(4, .int (nI (j + 1))), (3, .int (nI (aheadN (ar 0) k (j + 1)))), (5, .int ((nI (tK (ar 0) j)) - (nI (tK (ar 0) k)))), (0, .ref m), (1, .int rk), (2, .int (nI k))]) F.x F.cd dX3_tankByContent_95 hl rfl (inc_nI j 1) (by decide) rfl (fun ls hl => ?_)
                      refine lv_goto (tgt := 22) F.x F.cd dX3_tankByContent_98 (by decide) ?_
                      exact ih22 (j + 1) (by omega)  H locs ls hW (lv_sub hl [3, 4, 5, 1, 0] rfl)
              · refine lv_aload_n F.x F.cd dX3_tankByContent_54 rfl (lv_at hl 1 rfl) ?_
                refine lv_iload_n F.x F.cd dX3_tankByContent_55 rfl (lv_at hl 3 rfl) ?_
                refine lv_iconst (v := (nI 2)) F.x F.cd dX3_tankByContent_56 (by decide) ?_
                refine s_callV (As := [.int (nI k), .int (nI 2)]) (rest := []) (C := RX3) (T := TX3) (N := 18) (n := 2) F hW (k_X3_tank g l σ2 m A _ _ _ _ k 2 tw15 (by omega) (by omega)) (w2) rfl q2438 q2440 qs49 q79 q2441 rfl (by decide +kernel) rfl ⟨⟨Nat.le_of_ble_eq_true rfl, Nat.le_of_ble_eq_true rfl⟩, ⟨(Nat.le_of_ble_eq_true rfl), (Nat.le_of_ble_eq_true rfl)⟩⟩ (Nat.le_of_ble_eq_true rfl) hl.1 rfl dX3_tankByContent_57 cX_no (fun r18 σ18 H locs hp18 hW => ?_)
                obtain ⟨rfl, hs18⟩ := hp18
                rw [hs18] at hW
                refine W.eq (g2 := F0 m_ 60 ls (.int (nI (tI (ar 0) k)) :: [])) rfl ?_
                refine s_callS (As := [.int (nI (tI (ar 0) k))]) (rest := []) (n := 1) F hW (k_J19_bitCount g l σ2 (nI (tI (ar 0) k))) q2446 q2447 q92 q2448 (by decide +kernel) rfl ⟨⟨Nat.le_of_ble_eq_true rfl, Nat.le_of_ble_eq_true rfl⟩, ⟨(Nat.le_of_ble_eq_true rfl), (Nat.le_of_ble_eq_true rfl)⟩⟩ (Nat.le_of_ble_eq_true rfl) hl.1 rfl dX3_tankByContent_60 cX_no (fun r19 σ19 H locs hp19 hW => ?_)
                obtain ⟨rfl, hs19⟩ := hp19
                rw [hs19] at hW
                refine W.eq (g2 := F0 m_ 63 ls (.int (nI (pops (tI (ar 0) k))) :: [])) (by rw [bcI_nI _ (by omega)] <;> rfl) ?_
                refine lv_aload_n F.x F.cd dX3_tankByContent_63 rfl (lv_at hl 1 rfl) ?_
                refine lv_iload F.x F.cd dX3_tankByContent_64 (lv_at hl 5 rfl) ?_
                refine lv_iconst (v := (nI 2)) F.x F.cd dX3_tankByContent_66 (by decide) ?_
                refine s_callV (As := [.int (nI j), .int (nI 2)]) (rest := [.int (nI (pops (tI (ar 0) k)))]) (C := RX3) (T := TX3) (N := 18) (n := 2) F hW (k_X3_tank g l σ2 m A _ _ _ _ j 2 tw15 (by omega) (by omega)) (w2) rfl q2438 q2440 qs49 q79 q2441 rfl (by decide +kernel) rfl ⟨⟨Nat.le_of_ble_eq_true rfl, Nat.le_of_ble_eq_true rfl⟩, ⟨(Nat.le_of_ble_eq_true rfl), (Nat.le_of_ble_eq_true rfl)⟩⟩ (Nat.le_of_ble_eq_true rfl) hl.1 rfl dX3_tankByContent_67 cX_no (fun r20 σ20 H locs hp20 hW => ?_)
                obtain ⟨rfl, hs20⟩ := hp20
                rw [hs20] at hW
                refine W.eq (g2 := F0 m_ 70 ls (.int (nI (tI (ar 0) j)) :: .int (nI (pops (tI (ar 0) k))) :: [])) rfl ?_
                refine s_callS (As := [.int (nI (tI (ar 0) j))]) (rest := [.int (nI (pops (tI (ar 0) k)))]) (n := 1) F hW (k_J19_bitCount g l σ2 (nI (tI (ar 0) j))) q2446 q2447 q92 q2448 (by decide +kernel) rfl ⟨⟨Nat.le_of_ble_eq_true rfl, Nat.le_of_ble_eq_true rfl⟩, ⟨(Nat.le_of_ble_eq_true rfl), (Nat.le_of_ble_eq_true rfl)⟩⟩ (Nat.le_of_ble_eq_true rfl) hl.1 rfl dX3_tankByContent_70 cX_no (fun r21 σ21 H locs hp21 hW => ?_)
                obtain ⟨rfl, hs21⟩ := hp21
                rw [hs21] at hW
                refine W.eq (g2 := F0 m_ 73 ls (.int (nI (pops (tI (ar 0) j))) :: .int (nI (pops (tI (ar 0) k))) :: [])) (by rw [bcI_nI _ (by omega)] <;> rfl) ?_
                refine a_isub (v := ((nI (pops (tI (ar 0) k))) - (nI (pops (tI (ar 0) j))))) F (rfl) dX3_tankByContent_73 ?_
                refine lv_istore (lv' := [(5, .int ((nI (pops (tI (ar 0) k))) - (nI (pops (tI (ar 0) j))))), (0, .ref m), (1, .int rk), (2, .int (nI k)), (3, .int (nI (aheadN (ar 0) k j))), (4, .int (nI j))]) F.x F.cd dX3_tankByContent_74 hl (by decide) rfl (fun ls hl => ?_)
                rw [hm51] at c_51
                have hm78 := nsub_pos (a := pops (tI (ar 0) k)) (b := pops (tI (ar 0) j)) (by omega) (by omega)
                have hm83 := nsub_eq0 (a := pops (tI (ar 0) k)) (b := pops (tI (ar 0) j)) (by omega) (by omega)
                refine lv_iload F.x F.cd dX3_tankByContent_76 (lv_at hl 0 rfl) ?_
                refine lv_if_gt (x := ((nI (pops (tI (ar 0) k))) - (nI (pops (tI (ar 0) j))))) (tgt := 92) F.x F.cd dX3_tankByContent_78 (by decide) (fun c_78 => ?_) (fun c_78 => ?_)
                · refine lv_iinc (k := 4) (v := (nI (aheadN (ar 0) k j + 1))) (lv' := [(3, .int (nI (aheadN (ar 0) k j + 1))), (5, .int ((nI (pops (tI (ar 0) k))) - (nI (pops (tI (ar 0) j))))), (0, .ref m), (1, .int rk), (2, .int (nI k)), (4, .int (nI j))]) F.x F.cd dX3_tankByContent_92 hl rfl (inc_nI (aheadN (ar 0) k j) 1) (by decide) rfl (fun ls hl => ?_)
                  rw [hm78] at c_78
                  have hl : lv_has ls 6 [(3, .int (nI (aheadN (ar 0) k (j + 1)))), (5, .int ((nI (pops (tI (ar 0) k))) - (nI (pops (tI (ar 0) j))))), (0, .ref m), (1, .int rk), (2, .int (nI k)), (4, .int (nI j))] := by rw [show aheadN (ar 0) k (j + 1) = aheadN (ar 0) k j + 1 by rw [aheadN, if_pos (aheadT_iff.mpr (by omega))]]; exact hl
                  refine lv_iinc (k := 5) (v := (nI (j + 1))) (lv' := [(4, .int (nI (j + 1))), (3, .int (nI (aheadN (ar 0) k (j + 1)))), (5, .int ((nI (pops (tI (ar 0) k))) - (nI (pops (tI (ar 0) j))))), (0, .ref m), (1, .int rk), (2, .int (nI k))]) F.x F.cd dX3_tankByContent_95 hl rfl (inc_nI j 1) (by decide) rfl (fun ls hl => ?_)
                  refine lv_goto (tgt := 22) F.x F.cd dX3_tankByContent_98 (by decide) ?_
                  exact ih22 (j + 1) (by omega)  H locs ls hW (lv_sub hl [3, 4, 5, 1, 0] rfl)
                · refine lv_iload F.x F.cd dX3_tankByContent_81 (lv_at hl 0 rfl) ?_
                  refine lv_if_ne (x := ((nI (pops (tI (ar 0) k))) - (nI (pops (tI (ar 0) j))))) (tgt := 95) F.x F.cd dX3_tankByContent_83 (by decide) (fun c_83 => ?_) (fun c_83 => ?_)
                  · rw [hm78] at c_78
                    rw [hm83] at c_83
                    have hl : lv_has ls 6 [(5, .int ((nI (pops (tI (ar 0) k))) - (nI (pops (tI (ar 0) j))))), (0, .ref m), (1, .int rk), (2, .int (nI k)), (3, .int (nI (aheadN (ar 0) k (j + 1)))), (4, .int (nI j))] := by rw [show aheadN (ar 0) k (j + 1) = aheadN (ar 0) k j by rw [aheadN, if_neg (fun h => absurd (aheadT_iff.mp h) (by omega)), Nat.add_zero]]; exact hl
                    refine lv_iinc (k := 5) (v := (nI (j + 1))) (lv' := [(4, .int (nI (j + 1))), (5, .int ((nI (pops (tI (ar 0) k))) - (nI (pops (tI (ar 0) j))))), (0, .ref m), (1, .int rk), (2, .int (nI k)), (3, .int (nI (aheadN (ar 0) k (j + 1))))]) F.x F.cd dX3_tankByContent_95 hl rfl (inc_nI j 1) (by decide) rfl (fun ls hl => ?_)
                    refine lv_goto (tgt := 22) F.x F.cd dX3_tankByContent_98 (by decide) ?_
                    exact ih22 (j + 1) (by omega)  H locs ls hW (lv_sub hl [2, 3, 4, 5, 0] rfl)
                  · refine lv_iload F.x F.cd dX3_tankByContent_86 (lv_at hl 5 rfl) ?_
                    refine lv_iload_n F.x F.cd dX3_tankByContent_88 rfl (lv_at hl 3 rfl) ?_
                    refine n_icmp_ge (a := j) (b := k) (tgt := 95) F (by omega) (by omega) dX3_tankByContent_89 (by decide) (fun c_89 => ?_) (fun c_89 => ?_)
                    · rw [hm78] at c_78
                      rw [hm83] at c_83
                      have hl : lv_has ls 6 [(5, .int ((nI (pops (tI (ar 0) k))) - (nI (pops (tI (ar 0) j))))), (0, .ref m), (1, .int rk), (2, .int (nI k)), (3, .int (nI (aheadN (ar 0) k (j + 1)))), (4, .int (nI j))] := by rw [show aheadN (ar 0) k (j + 1) = aheadN (ar 0) k j by rw [aheadN, if_neg (fun h => absurd (aheadT_iff.mp h) (by omega)), Nat.add_zero]]; exact hl
                      refine lv_iinc (k := 5) (v := (nI (j + 1))) (lv' := [(4, .int (nI (j + 1))), (5, .int ((nI (pops (tI (ar 0) k))) - (nI (pops (tI (ar 0) j))))), (0, .ref m), (1, .int rk), (2, .int (nI k)), (3, .int (nI (aheadN (ar 0) k (j + 1))))]) F.x F.cd dX3_tankByContent_95 hl rfl (inc_nI j 1) (by decide) rfl (fun ls hl => ?_)
                      refine lv_goto (tgt := 22) F.x F.cd dX3_tankByContent_98 (by decide) ?_
                      exact ih22 (j + 1) (by omega)  H locs ls hW (lv_sub hl [2, 3, 4, 5, 0] rfl)
                    · refine lv_iinc (k := 4) (v := (nI (aheadN (ar 0) k j + 1))) (lv' := [(3, .int (nI (aheadN (ar 0) k j + 1))), (5, .int ((nI (pops (tI (ar 0) k))) - (nI (pops (tI (ar 0) j))))), (0, .ref m), (1, .int rk), (2, .int (nI k)), (4, .int (nI j))]) F.x F.cd dX3_tankByContent_92 hl rfl (inc_nI (aheadN (ar 0) k j) 1) (by decide) rfl (fun ls hl => ?_)
                      rw [hm78] at c_78
                      rw [hm83] at c_83
                      have hl : lv_has ls 6 [(3, .int (nI (aheadN (ar 0) k (j + 1)))), (5, .int ((nI (pops (tI (ar 0) k))) - (nI (pops (tI (ar 0) j))))), (0, .ref m), (1, .int rk), (2, .int (nI k)), (4, .int (nI j))] := by rw [show aheadN (ar 0) k (j + 1) = aheadN (ar 0) k j + 1 by rw [aheadN, if_pos (aheadT_iff.mpr (by omega))]]; exact hl
                      refine lv_iinc (k := 5) (v := (nI (j + 1))) (lv' := [(4, .int (nI (j + 1))), (3, .int (nI (aheadN (ar 0) k (j + 1)))), (5, .int ((nI (pops (tI (ar 0) k))) - (nI (pops (tI (ar 0) j))))), (0, .ref m), (1, .int rk), (2, .int (nI k))]) F.x F.cd dX3_tankByContent_95 hl rfl (inc_nI j 1) (by decide) rfl (fun ls hl => ?_)
                      refine lv_goto (tgt := 22) F.x F.cd dX3_tankByContent_98 (by decide) ?_
                      exact ih22 (j + 1) (by omega)  H locs ls hW (lv_sub hl [3, 4, 5, 1, 0] rfl)
        exact loop22 (ar 0 0) 0 (by omega)  H locs ls hW (lv_sub hl [2, 3, 4, 1, 0] rfl)
  exact loop7 (ar 0 0) 0 (by omega) (rfl) H locs ls hW (lv_sub hl [1, 2, 0] rfl)
set_option maxHeartbeats 4000000 in
theorem k_X3_pipeByDirt (g : Gh) (l : Launch) (σ : Sto) (m : Nat) (A : Nat → Nat) (iv : Nat → Int32) (wd : Nat) (ar : Nat → Nat → Nat) (rb : Nat → Bool) (rk : Int32) (hw : IsTw g σ m A iv wd ar rb) (hI : Inv (ar 0)) : Ct g l yX3_pipeByDirt cX3_pipeByDirt 6 (some .int) ({ frames := 1, cells := 0, slots := 0, locals := 22 } : Room) [.ref m, .int rk] σ (fun r σ' => (r = some (.int (findP (ar 0) rk 0 (ar 0 1))) ∧ findP (ar 0) rk 0 (ar 0 1) ≠ -1 ∧ IsTw g σ' m A (va_up iv 17 (nI 0)) wd ar rb ∧ Fm σ σ' m A) ∨ (findP (ar 0) rk 0 (ar 0 1) = -1 ∧ r = some (.int (nI 0)) ∧ IsTw g σ' m A (va_up iv 17 (nI 1)) wd ar rb ∧ Fm σ σ' m A)) (nox) := by
  refine Ct.body (by decide) (Nat.le_of_ble_eq_true rfl) ?_
  intro p_ e_ s_ m_ args_ below_ meth_ c_ ls H locs Q F hW hl hQ
  have hl : lv_has ls 6 [(0, .ref m), (1, .int rk)] := hl
  obtain ⟨t0, tb0, ta0, ta1, ta2, ta3, ta4, ta5, ta6, ta7, tbb, tii⟩ := id hw
  have hv0 := hI.1
  have hv1 := hI.2.1
  refine lv_aload_n F.x F.cd dX3_pipeByDirt_0 rfl (lv_at hl 0 rfl) ?_
  refine lv_iconst (v := (nI 0)) F.x F.cd dX3_pipeByDirt_1 (by decide) ?_
  refine s_put F hW (ci := 7) (C := RX3) (T := TX3) (N := 18) (v := .int (nI 0)) (ty := .int) (t0) (tb0) rfl in_X3 tyX3_ok nmX3 17 (by decide) q2296 (fun _ h9 => h9) rfl (by decide +kernel) rfl rfl (Nat.le_of_ble_eq_true rfl) dX3_pipeByDirt_2 (fun H locs hW => ?_)
  obtain ⟨σ2, hσ2⟩ : ∃ z, z = sset σ m (.inr (7, [.ref (A 0), .ref (A 1), .ref (A 2), .int (iv 3), .ref (A 3), .int (iv 5), .ref (A 4), .ref (A 5), .int (iv 8), .ref (A 6), .int (iv 10), .int (iv 11), .ref wd, .ref (A 7), .int (iv 14), .int (iv 15), .int (iv 16), .int (nI 0)])) := ⟨_, rfl⟩
  have hW : Hl g σ2 H locs := by rw [hσ2]; exact hW
  have w2 : σ2 m = some (.inr (7, [.ref (A 0), .ref (A 1), .ref (A 2), .int (iv 3), .ref (A 3), .int (iv 5), .ref (A 4), .ref (A 5), .int (iv 8), .ref (A 6), .int (iv 10), .int (iv 11), .ref wd, .ref (A 7), .int (iv 14), .int (iv 15), .int (iv 16), .int (nI 0)])) := by rw [hσ2]; exact sset_eq
  have f3 : σ2 (A 0) = some (eI g 0 114 (fun x9 => nI ((ar 0) x9))) := by rw [hσ2, sset_ne (sto_ne t0 ta0 (by simp))]; exact ta0
  have f4 : σ2 (A 1) = some (eI g 0 114 (fun x9 => nI ((ar 1) x9))) := by rw [hσ2, sset_ne (sto_ne t0 ta1 (by simp))]; exact ta1
  have f5 : σ2 (A 2) = some (eI g 0 912 (fun x9 => nI ((ar 2) x9))) := by rw [hσ2, sset_ne (sto_ne t0 ta2 (by simp))]; exact ta2
  have f6 : σ2 (A 3) = some (eI g 0 114 (fun x9 => nI ((ar 3) x9))) := by rw [hσ2, sset_ne (sto_ne t0 ta3 (by simp))]; exact ta3
  have f7 : σ2 (A 4) = some (eI g 2 2048 (fun x9 => bI (rb x9))) := by rw [hσ2, sset_ne (sto_ne t0 ta4 (by simp))]; exact ta4
  have f8 : σ2 (A 5) = some (eI g 3 60 (fun x9 => nI ((ar 5) x9))) := by rw [hσ2, sset_ne (sto_ne t0 ta5 (by simp))]; exact ta5
  have f9 : σ2 (A 6) = some (eI g 3 60 (fun x9 => nI ((ar 6) x9))) := by rw [hσ2, sset_ne (sto_ne t0 ta6 (by simp))]; exact ta6
  have f10 : σ2 (A 7) = some (eI g 0 3 (fun x9 => nI ((ar 7) x9))) := by rw [hσ2, sset_ne (sto_ne t0 ta7 (by simp))]; exact ta7
  refine lv_iconst (v := (nI 0)) F.x F.cd dX3_pipeByDirt_5 (by decide) ?_
  refine lv_istore_n (lv' := [(2, .int (nI 0)), (0, .ref m), (1, .int rk)]) F.x F.cd dX3_pipeByDirt_6 rfl hl (by decide) rfl (fun ls hl => ?_)
  have loop7 : ∀ (n : Nat) (k : Nat), k + n = ar 0 1 → findP (ar 0) rk k n = findP (ar 0) rk 0 (ar 0 1) → ∀ (H : Heap) (locs : List Loc) (ls : Array Slot), Hl g σ2 H locs → lv_has ls 6 [(0, .ref m), (1, .int rk), (2, .int (nI k))] → W p_ l e_ ({ frames := 1, cells := 0, slots := 0, locals := 22 } : Room) s_ m_ args_ below_ meth_ c_ H locs 0 0 Q (F0 m_ 7 ls ([])) := by
    intro n
    induction n with
    | zero =>
      intro k hkn hfd H locs ls hW hl
      refine lv_iload_n F.x F.cd dX3_pipeByDirt_7 rfl (lv_at hl 2 rfl) ?_
      refine lv_aload_n F.x F.cd dX3_pipeByDirt_8 rfl (lv_at hl 0 rfl) ?_
      refine s_get F hW (ci := 7) (C := RX3) (T := TX3) (N := 18) (v := .ref (A 0)) (w2) rfl in_X3 0 (by decide) q2279 (fun _ h9 => h9) rfl dX3_pipeByDirt_9 ?_
      refine lv_iconst (v := (nI 1)) F.x F.cd dX3_pipeByDirt_12 (by decide) ?_
      refine n_iald (i := 1) (n := 114) (f := (fun x9 => nI ((ar 0) x9))) (x := (nI (ar 0 1))) F hW (f3) (by omega) (by omega) (rfl) dX3_pipeByDirt_13 ?_
      refine n_icmp_ge (a := k) (b := ar 0 1) (tgt := 110) F (by omega) (by omega) dX3_pipeByDirt_14 (by decide) (fun c_14 => ?_) (fun c_14 => ?_)
      · refine lv_aload_n F.x F.cd dX3_pipeByDirt_110 rfl (lv_at hl 0 rfl) ?_
        refine lv_iconst (v := (nI 1)) F.x F.cd dX3_pipeByDirt_111 (by decide) ?_
        have tw11 : IsTw g σ2 m A (va_up iv 17 (nI 0)) wd ar rb := ⟨w2, tb0, f3, f4, f5, f6, f7, f8, f9, f10, tbb, tii⟩
        have fm11 : Fm σ σ2 m A := by rw [hσ2]; exact (Fm.refl).setM
        refine s_callV (As := [.int (nI 1)]) (rest := []) (C := RX3) (T := TX3) (N := 18) (n := 1) F hW (k_X3_raises g l σ2 m A _ _ _ _ (nI 1) tw11 ) (w2) rfl q2362 q2364 qs37 q79 q2365 rfl (by decide +kernel) rfl ⟨⟨Nat.le_of_ble_eq_true rfl, Nat.le_of_ble_eq_true rfl⟩, ⟨(Nat.le_of_ble_eq_true rfl), (Nat.le_of_ble_eq_true rfl)⟩⟩ (Nat.le_of_ble_eq_true rfl) hl.1 rfl dX3_pipeByDirt_112 cX_no (fun r12 σ12 H locs hp12 hW => ?_)
        obtain ⟨rfl, tv12, fv12⟩ := hp12
        refine W.eq (g2 := F0 m_ 115 ls (.int (nI 0) :: [])) rfl ?_
        obtain ⟨t0_13, -, ta0_13, ta1_13, ta2_13, ta3_13, ta4_13, ta5_13, ta6_13, ta7_13, -, -⟩ := id tv12
        have fm_13 : Fm σ σ12 m A := (fm11).trans fv12
        have tw_13 : IsTw g σ12 m A (va_up iv 17 (nI 1)) wd ar rb := ⟨t0_13, tb0, ta0_13, ta1_13, ta2_13, ta3_13, ta4_13, ta5_13, ta6_13, ta7_13, tbb, tii⟩
        subst hQ
        exact s_reti (v := (nI 0)) F hW rfl (Or.inr ⟨by rw [← hfd]; rfl, rfl, tw_13, fm_13⟩) ⟨(Nat.le_of_ble_eq_true rfl), (Nat.le_of_ble_eq_true rfl)⟩ dX3_pipeByDirt_115
      · exact absurd c_14 (by omega)
    | succ n ih7 =>
      intro k hkn hfd H locs ls hW hl
      refine lv_iload_n F.x F.cd dX3_pipeByDirt_7 rfl (lv_at hl 2 rfl) ?_
      refine lv_aload_n F.x F.cd dX3_pipeByDirt_8 rfl (lv_at hl 0 rfl) ?_
      refine s_get F hW (ci := 7) (C := RX3) (T := TX3) (N := 18) (v := .ref (A 0)) (w2) rfl in_X3 0 (by decide) q2279 (fun _ h9 => h9) rfl dX3_pipeByDirt_9 ?_
      refine lv_iconst (v := (nI 1)) F.x F.cd dX3_pipeByDirt_12 (by decide) ?_
      refine n_iald (i := 1) (n := 114) (f := (fun x9 => nI ((ar 0) x9))) (x := (nI (ar 0 1))) F hW (f3) (by omega) (by omega) (rfl) dX3_pipeByDirt_13 ?_
      refine n_icmp_ge (a := k) (b := ar 0 1) (tgt := 110) F (by omega) (by omega) dX3_pipeByDirt_14 (by decide) (fun c_14 => ?_) (fun c_14 => ?_)
      · exact absurd c_14 (by omega)
      · refine lv_iconst (v := (nI 0)) F.x F.cd dX3_pipeByDirt_17 (by decide) ?_
        refine lv_istore_n (lv' := [(3, .int (nI 0)), (0, .ref m), (1, .int rk), (2, .int (nI k))]) F.x F.cd dX3_pipeByDirt_18 rfl hl (by decide) rfl (fun ls hl => ?_)
        refine lv_iconst (v := (nI 0)) F.x F.cd dX3_pipeByDirt_19 (by decide) ?_
        refine lv_istore (lv' := [(4, .int (nI 0)), (3, .int (nI 0)), (0, .ref m), (1, .int rk), (2, .int (nI k))]) F.x F.cd dX3_pipeByDirt_20 hl (by decide) rfl (fun ls hl => ?_)
        have loop22 : ∀ (z : Nat) (j : Nat), j + z = ar 0 1 → ∀ (H : Heap) (locs : List Loc) (ls : Array Slot), Hl g σ2 H locs → lv_has ls 6 [(0, .ref m), (1, .int rk), (2, .int (nI k)), (3, .int (nI (aheadPN (ar 0) k j))), (4, .int (nI j))] → W p_ l e_ ({ frames := 1, cells := 0, slots := 0, locals := 22 } : Room) s_ m_ args_ below_ meth_ c_ H locs 0 0 Q (F0 m_ 22 ls ([])) := by
          intro z
          induction z with
          | zero =>
            intro j hkz  H locs ls hW hl
            refine lv_iload F.x F.cd dX3_pipeByDirt_22 (lv_at hl 4 rfl) ?_
            refine lv_aload_n F.x F.cd dX3_pipeByDirt_24 rfl (lv_at hl 0 rfl) ?_
            refine s_get F hW (ci := 7) (C := RX3) (T := TX3) (N := 18) (v := .ref (A 0)) (w2) rfl in_X3 0 (by decide) q2279 (fun _ h9 => h9) rfl dX3_pipeByDirt_25 ?_
            refine lv_iconst (v := (nI 1)) F.x F.cd dX3_pipeByDirt_28 (by decide) ?_
            refine n_iald (i := 1) (n := 114) (f := (fun x9 => nI ((ar 0) x9))) (x := (nI (ar 0 1))) F hW (f3) (by omega) (by omega) (rfl) dX3_pipeByDirt_29 ?_
            refine n_icmp_ge (a := j) (b := ar 0 1) (tgt := 97) F (by omega) (by omega) dX3_pipeByDirt_30 (by decide) (fun c_30 => ?_) (fun c_30 => ?_)
            · have hj : j = ar 0 1 := by omega
              refine lv_iload_n F.x F.cd dX3_pipeByDirt_97 rfl (lv_at hl 3 rfl) ?_
              refine lv_iload_n F.x F.cd dX3_pipeByDirt_98 rfl (lv_at hl 1 rfl) ?_
              refine lv_icmp_ne (x := (nI (aheadPN (ar 0) k j))) (y := rk) (tgt := 104) F.x F.cd dX3_pipeByDirt_99 (by decide) (fun c_99 => ?_) (fun c_99 => ?_)
              · refine lv_iinc (k := 2) (v := (nI (k + 1))) (lv' := [(2, .int (nI (k + 1))), (0, .ref m), (1, .int rk), (3, .int (nI (aheadPN (ar 0) k j))), (4, .int (nI j))]) F.x F.cd dX3_pipeByDirt_104 hl rfl (inc_nI k 1) (by decide) rfl (fun ls hl => ?_)
                refine lv_goto (tgt := 7) F.x F.cd dX3_pipeByDirt_107 (by decide) ?_
                exact ih7 (k + 1) (by omega) (by rw [← hfd]; exact (if_neg (by rw [← hj]; exact c_99)).symm) H locs ls hW (lv_sub hl [1, 2, 0] rfl)
              · refine lv_iload_n F.x F.cd dX3_pipeByDirt_102 rfl (lv_at hl 2 rfl) ?_
                have tw14 : IsTw g σ2 m A (va_up iv 17 (nI 0)) wd ar rb := ⟨w2, tb0, f3, f4, f5, f6, f7, f8, f9, f10, tbb, tii⟩
                have fm14 : Fm σ σ2 m A := by rw [hσ2]; exact (Fm.refl).setM
                have hz : findP (ar 0) rk 0 (ar 0 1) = nI k := by rw [← hfd]; exact if_pos (by rw [← hj]; exact c_99)
                subst hQ
                exact s_reti (v := (nI k)) F hW rfl (Or.inl ⟨by rw [hz], by rw [hz]; exact nI_neg (by omega), tw14, fm14⟩) ⟨(Nat.le_of_ble_eq_true rfl), (Nat.le_of_ble_eq_true rfl)⟩ dX3_pipeByDirt_103
            · exact absurd c_30 (by omega)
          | succ z ih22 =>
            intro j hkz  H locs ls hW hl
            refine lv_iload F.x F.cd dX3_pipeByDirt_22 (lv_at hl 4 rfl) ?_
            refine lv_aload_n F.x F.cd dX3_pipeByDirt_24 rfl (lv_at hl 0 rfl) ?_
            refine s_get F hW (ci := 7) (C := RX3) (T := TX3) (N := 18) (v := .ref (A 0)) (w2) rfl in_X3 0 (by decide) q2279 (fun _ h9 => h9) rfl dX3_pipeByDirt_25 ?_
            refine lv_iconst (v := (nI 1)) F.x F.cd dX3_pipeByDirt_28 (by decide) ?_
            refine n_iald (i := 1) (n := 114) (f := (fun x9 => nI ((ar 0) x9))) (x := (nI (ar 0 1))) F hW (f3) (by omega) (by omega) (rfl) dX3_pipeByDirt_29 ?_
            refine n_icmp_ge (a := j) (b := ar 0 1) (tgt := 97) F (by omega) (by omega) dX3_pipeByDirt_30 (by decide) (fun c_30 => ?_) (fun c_30 => ?_)
            · exact absurd c_30 (by omega)
            · have hpj := hI.pp (q := j) (by omega)
              have hpk := hI.pp (q := k) (by omega)
              refine lv_aload_n F.x F.cd dX3_pipeByDirt_33 rfl (lv_at hl 0 rfl) ?_
              refine lv_iload F.x F.cd dX3_pipeByDirt_34 (lv_at hl 4 rfl) ?_
              refine lv_iconst (v := (nI 5)) F.x F.cd dX3_pipeByDirt_36 (by decide) ?_
              have tw15 : IsTw g σ2 m A (va_up iv 17 (nI 0)) wd ar rb := ⟨w2, tb0, f3, f4, f5, f6, f7, f8, f9, f10, tbb, tii⟩
              have fm15 : Fm σ σ2 m A := by rw [hσ2]; exact (Fm.refl).setM
              refine s_callV (As := [.int (nI j), .int (nI 5)]) (rest := []) (C := RX3) (T := TX3) (N := 18) (n := 2) F hW (k_X3_pipe g l σ2 m A _ _ _ _ j 5 tw15 (by omega) (by omega)) (w2) rfl q2406 q2408 qs44 q79 q2409 rfl (by decide +kernel) rfl ⟨⟨Nat.le_of_ble_eq_true rfl, Nat.le_of_ble_eq_true rfl⟩, ⟨(Nat.le_of_ble_eq_true rfl), (Nat.le_of_ble_eq_true rfl)⟩⟩ (Nat.le_of_ble_eq_true rfl) hl.1 rfl dX3_pipeByDirt_37 cX_no (fun r16 σ16 H locs hp16 hW => ?_)
              obtain ⟨rfl, hs16⟩ := hp16
              rw [hs16] at hW
              refine W.eq (g2 := F0 m_ 40 ls (.int (nI (pD (ar 0) j)) :: [])) rfl ?_
              refine lv_aload_n F.x F.cd dX3_pipeByDirt_40 rfl (lv_at hl 0 rfl) ?_
              refine lv_iload_n F.x F.cd dX3_pipeByDirt_41 rfl (lv_at hl 2 rfl) ?_
              refine lv_iconst (v := (nI 5)) F.x F.cd dX3_pipeByDirt_42 (by decide) ?_
              refine s_callV (As := [.int (nI k), .int (nI 5)]) (rest := [.int (nI (pD (ar 0) j))]) (C := RX3) (T := TX3) (N := 18) (n := 2) F hW (k_X3_pipe g l σ2 m A _ _ _ _ k 5 tw15 (by omega) (by omega)) (w2) rfl q2406 q2408 qs44 q79 q2409 rfl (by decide +kernel) rfl ⟨⟨Nat.le_of_ble_eq_true rfl, Nat.le_of_ble_eq_true rfl⟩, ⟨(Nat.le_of_ble_eq_true rfl), (Nat.le_of_ble_eq_true rfl)⟩⟩ (Nat.le_of_ble_eq_true rfl) hl.1 rfl dX3_pipeByDirt_43 cX_no (fun r17 σ17 H locs hp17 hW => ?_)
              obtain ⟨rfl, hs17⟩ := hp17
              rw [hs17] at hW
              refine W.eq (g2 := F0 m_ 46 ls (.int (nI (pD (ar 0) k)) :: .int (nI (pD (ar 0) j)) :: [])) rfl ?_
              refine a_isub (v := ((nI (pD (ar 0) j)) - (nI (pD (ar 0) k)))) F (rfl) dX3_pipeByDirt_46 ?_
              refine lv_istore (lv' := [(5, .int ((nI (pD (ar 0) j)) - (nI (pD (ar 0) k)))), (0, .ref m), (1, .int rk), (2, .int (nI k)), (3, .int (nI (aheadPN (ar 0) k j))), (4, .int (nI j))]) F.x F.cd dX3_pipeByDirt_47 hl (by decide) rfl (fun ls hl => ?_)
              refine lv_iload F.x F.cd dX3_pipeByDirt_49 (lv_at hl 0 rfl) ?_
              refine lv_if_ne (x := ((nI (pD (ar 0) j)) - (nI (pD (ar 0) k)))) (tgt := 72) F.x F.cd dX3_pipeByDirt_51 (by decide) (fun c_51 => ?_) (fun c_51 => ?_)
              · have hl : lv_has ls 6 [(5, .int (pmore (ar 0) j k)), (0, .ref m), (1, .int rk), (2, .int (nI k)), (3, .int (nI (aheadPN (ar 0) k j))), (4, .int (nI j))] := by rw [show pmore (ar 0) j k = _ from if_neg c_51]; exact hl
                refine lv_iload F.x F.cd dX3_pipeByDirt_72 (lv_at hl 0 rfl) ?_
                refine lv_if_gt (x := (pmore (ar 0) j k)) (tgt := 88) F.x F.cd dX3_pipeByDirt_74 (by decide) (fun c_74 => ?_) (fun c_74 => ?_)
                · refine lv_iinc (k := 4) (v := (nI (aheadPN (ar 0) k j + 1))) (lv' := [(3, .int (nI (aheadPN (ar 0) k j + 1))), (5, .int (pmore (ar 0) j k)), (0, .ref m), (1, .int rk), (2, .int (nI k)), (4, .int (nI j))]) F.x F.cd dX3_pipeByDirt_88 hl rfl (inc_nI (aheadPN (ar 0) k j) 1) (by decide) rfl (fun ls hl => ?_)
                  have hl : lv_has ls 6 [(3, .int (nI (aheadPN (ar 0) k (j + 1)))), (5, .int (pmore (ar 0) j k)), (0, .ref m), (1, .int rk), (2, .int (nI k)), (4, .int (nI j))] := by rw [show aheadPN (ar 0) k (j + 1) = aheadPN (ar 0) k j + 1 by rw [aheadPN, if_pos (by unfold aheadP; first | (simp [c_74]; done) | (simp [c_74]; omega) | (simp at c_79; simp [c_74]; done) | (simp at c_79; simp [c_74]; omega))]]; exact hl
                  refine lv_iinc (k := 5) (v := (nI (j + 1))) (lv' := [(4, .int (nI (j + 1))), (3, .int (nI (aheadPN (ar 0) k (j + 1)))), (5, .int (pmore (ar 0) j k)), (0, .ref m), (1, .int rk), (2, .int (nI k))]) F.x F.cd dX3_pipeByDirt_91 hl rfl (inc_nI j 1) (by decide) rfl (fun ls hl => ?_)
                  refine lv_goto (tgt := 22) F.x F.cd dX3_pipeByDirt_94 (by decide) ?_
                  exact ih22 (j + 1) (by omega)  H locs ls hW (lv_sub hl [3, 4, 5, 1, 0] rfl)
                · refine lv_iload F.x F.cd dX3_pipeByDirt_77 (lv_at hl 0 rfl) ?_
                  refine lv_if_ne (x := (pmore (ar 0) j k)) (tgt := 91) F.x F.cd dX3_pipeByDirt_79 (by decide) (fun c_79 => ?_) (fun c_79 => ?_)
                  · have hl : lv_has ls 6 [(5, .int (pmore (ar 0) j k)), (0, .ref m), (1, .int rk), (2, .int (nI k)), (3, .int (nI (aheadPN (ar 0) k (j + 1)))), (4, .int (nI j))] := by rw [show aheadPN (ar 0) k (j + 1) = aheadPN (ar 0) k j by rw [aheadPN, if_neg (by unfold aheadP; first | (simp [c_74, c_79]; done) | (simp [c_74, c_79]; omega) | (simp at c_79; simp [c_74, c_79]; done) | (simp at c_79; simp [c_74, c_79]; omega)), Nat.add_zero]]; exact hl
                    refine lv_iinc (k := 5) (v := (nI (j + 1))) (lv' := [(4, .int (nI (j + 1))), (5, .int (pmore (ar 0) j k)), (0, .ref m), (1, .int rk), (2, .int (nI k)), (3, .int (nI (aheadPN (ar 0) k (j + 1))))]) F.x F.cd dX3_pipeByDirt_91 hl rfl (inc_nI j 1) (by decide) rfl (fun ls hl => ?_)
                    refine lv_goto (tgt := 22) F.x F.cd dX3_pipeByDirt_94 (by decide) ?_
                    exact ih22 (j + 1) (by omega)  H locs ls hW (lv_sub hl [2, 3, 4, 5, 0] rfl)
                  · refine lv_iload F.x F.cd dX3_pipeByDirt_82 (lv_at hl 5 rfl) ?_
                    refine lv_iload_n F.x F.cd dX3_pipeByDirt_84 rfl (lv_at hl 3 rfl) ?_
                    refine n_icmp_ge (a := j) (b := k) (tgt := 91) F (by omega) (by omega) dX3_pipeByDirt_85 (by decide) (fun c_85 => ?_) (fun c_85 => ?_)
                    · have hl : lv_has ls 6 [(5, .int (pmore (ar 0) j k)), (0, .ref m), (1, .int rk), (2, .int (nI k)), (3, .int (nI (aheadPN (ar 0) k (j + 1)))), (4, .int (nI j))] := by rw [show aheadPN (ar 0) k (j + 1) = aheadPN (ar 0) k j by rw [aheadPN, if_neg (by unfold aheadP; first | (simp [c_74, c_79, c_85]; done) | (simp [c_74, c_79, c_85]; omega) | (simp at c_79; simp [c_74, c_79, c_85]; done) | (simp at c_79; simp [c_74, c_79, c_85]; omega)), Nat.add_zero]]; exact hl
                      refine lv_iinc (k := 5) (v := (nI (j + 1))) (lv' := [(4, .int (nI (j + 1))), (5, .int (pmore (ar 0) j k)), (0, .ref m), (1, .int rk), (2, .int (nI k)), (3, .int (nI (aheadPN (ar 0) k (j + 1))))]) F.x F.cd dX3_pipeByDirt_91 hl rfl (inc_nI j 1) (by decide) rfl (fun ls hl => ?_)
                      refine lv_goto (tgt := 22) F.x F.cd dX3_pipeByDirt_94 (by decide) ?_
                      exact ih22 (j + 1) (by omega)  H locs ls hW (lv_sub hl [2, 3, 4, 5, 0] rfl)
                    · refine lv_iinc (k := 4) (v := (nI (aheadPN (ar 0) k j + 1))) (lv' := [(3, .int (nI (aheadPN (ar 0) k j + 1))), (5, .int (pmore (ar 0) j k)), (0, .ref m), (1, .int rk), (2, .int (nI k)), (4, .int (nI j))]) F.x F.cd dX3_pipeByDirt_88 hl rfl (inc_nI (aheadPN (ar 0) k j) 1) (by decide) rfl (fun ls hl => ?_)
                      have hl : lv_has ls 6 [(3, .int (nI (aheadPN (ar 0) k (j + 1)))), (5, .int (pmore (ar 0) j k)), (0, .ref m), (1, .int rk), (2, .int (nI k)), (4, .int (nI j))] := by rw [show aheadPN (ar 0) k (j + 1) = aheadPN (ar 0) k j + 1 by rw [aheadPN, if_pos (by unfold aheadP; first | (simp [c_74, c_79, c_85]; done) | (simp [c_74, c_79, c_85]; omega) | (simp at c_79; simp [c_74, c_79, c_85]; done) | (simp at c_79; simp [c_74, c_79, c_85]; omega))]]; exact hl
                      refine lv_iinc (k := 5) (v := (nI (j + 1))) (lv' := [(4, .int (nI (j + 1))), (3, .int (nI (aheadPN (ar 0) k (j + 1)))), (5, .int (pmore (ar 0) j k)), (0, .ref m), (1, .int rk), (2, .int (nI k))]) F.x F.cd dX3_pipeByDirt_91 hl rfl (inc_nI j 1) (by decide) rfl (fun ls hl => ?_)
                      refine lv_goto (tgt := 22) F.x F.cd dX3_pipeByDirt_94 (by decide) ?_
                      exact ih22 (j + 1) (by omega)  H locs ls hW (lv_sub hl [3, 4, 5, 1, 0] rfl)
              · refine lv_aload_n F.x F.cd dX3_pipeByDirt_54 rfl (lv_at hl 1 rfl) ?_
                refine lv_iload F.x F.cd dX3_pipeByDirt_55 (lv_at hl 5 rfl) ?_
                refine lv_bipush (v := (nI 6)) F.x F.cd dX3_pipeByDirt_57 (by decide) ?_
                refine s_callV (As := [.int (nI j), .int (nI 6)]) (rest := []) (C := RX3) (T := TX3) (N := 18) (n := 2) F hW (k_X3_pipe g l σ2 m A _ _ _ _ j 6 tw15 (by omega) (by omega)) (w2) rfl q2406 q2408 qs44 q79 q2409 rfl (by decide +kernel) rfl ⟨⟨Nat.le_of_ble_eq_true rfl, Nat.le_of_ble_eq_true rfl⟩, ⟨(Nat.le_of_ble_eq_true rfl), (Nat.le_of_ble_eq_true rfl)⟩⟩ (Nat.le_of_ble_eq_true rfl) hl.1 rfl dX3_pipeByDirt_59 cX_no (fun r18 σ18 H locs hp18 hW => ?_)
                obtain ⟨rfl, hs18⟩ := hp18
                rw [hs18] at hW
                refine W.eq (g2 := F0 m_ 62 ls (.int (nI (pL (ar 0) j)) :: [])) rfl ?_
                refine lv_aload_n F.x F.cd dX3_pipeByDirt_62 rfl (lv_at hl 1 rfl) ?_
                refine lv_iload_n F.x F.cd dX3_pipeByDirt_63 rfl (lv_at hl 3 rfl) ?_
                refine lv_bipush (v := (nI 6)) F.x F.cd dX3_pipeByDirt_64 (by decide) ?_
                refine s_callV (As := [.int (nI k), .int (nI 6)]) (rest := [.int (nI (pL (ar 0) j))]) (C := RX3) (T := TX3) (N := 18) (n := 2) F hW (k_X3_pipe g l σ2 m A _ _ _ _ k 6 tw15 (by omega) (by omega)) (w2) rfl q2406 q2408 qs44 q79 q2409 rfl (by decide +kernel) rfl ⟨⟨Nat.le_of_ble_eq_true rfl, Nat.le_of_ble_eq_true rfl⟩, ⟨(Nat.le_of_ble_eq_true rfl), (Nat.le_of_ble_eq_true rfl)⟩⟩ (Nat.le_of_ble_eq_true rfl) hl.1 rfl dX3_pipeByDirt_66 cX_no (fun r19 σ19 H locs hp19 hW => ?_)
                obtain ⟨rfl, hs19⟩ := hp19
                rw [hs19] at hW
                refine W.eq (g2 := F0 m_ 69 ls (.int (nI (pL (ar 0) k)) :: .int (nI (pL (ar 0) j)) :: [])) rfl ?_
                refine a_isub (v := ((nI (pL (ar 0) j)) - (nI (pL (ar 0) k)))) F (rfl) dX3_pipeByDirt_69 ?_
                refine lv_istore (lv' := [(5, .int ((nI (pL (ar 0) j)) - (nI (pL (ar 0) k)))), (0, .ref m), (1, .int rk), (2, .int (nI k)), (3, .int (nI (aheadPN (ar 0) k j))), (4, .int (nI j))]) F.x F.cd dX3_pipeByDirt_70 hl (by decide) rfl (fun ls hl => ?_)
                have hl : lv_has ls 6 [(5, .int (pmore (ar 0) j k)), (0, .ref m), (1, .int rk), (2, .int (nI k)), (3, .int (nI (aheadPN (ar 0) k j))), (4, .int (nI j))] := by rw [show pmore (ar 0) j k = _ from if_pos c_51]; exact hl
                refine lv_iload F.x F.cd dX3_pipeByDirt_72 (lv_at hl 0 rfl) ?_
                refine lv_if_gt (x := (pmore (ar 0) j k)) (tgt := 88) F.x F.cd dX3_pipeByDirt_74 (by decide) (fun c_74 => ?_) (fun c_74 => ?_)
                · refine lv_iinc (k := 4) (v := (nI (aheadPN (ar 0) k j + 1))) (lv' := [(3, .int (nI (aheadPN (ar 0) k j + 1))), (5, .int (pmore (ar 0) j k)), (0, .ref m), (1, .int rk), (2, .int (nI k)), (4, .int (nI j))]) F.x F.cd dX3_pipeByDirt_88 hl rfl (inc_nI (aheadPN (ar 0) k j) 1) (by decide) rfl (fun ls hl => ?_)
                  have hl : lv_has ls 6 [(3, .int (nI (aheadPN (ar 0) k (j + 1)))), (5, .int (pmore (ar 0) j k)), (0, .ref m), (1, .int rk), (2, .int (nI k)), (4, .int (nI j))] := by rw [show aheadPN (ar 0) k (j + 1) = aheadPN (ar 0) k j + 1 by rw [aheadPN, if_pos (by unfold aheadP; first | (simp [c_74]; done) | (simp [c_74]; omega) | (simp at c_79; simp [c_74]; done) | (simp at c_79; simp [c_74]; omega))]]; exact hl
                  refine lv_iinc (k := 5) (v := (nI (j + 1))) (lv' := [(4, .int (nI (j + 1))), (3, .int (nI (aheadPN (ar 0) k (j + 1)))), (5, .int (pmore (ar 0) j k)), (0, .ref m), (1, .int rk), (2, .int (nI k))]) F.x F.cd dX3_pipeByDirt_91 hl rfl (inc_nI j 1) (by decide) rfl (fun ls hl => ?_)
                  refine lv_goto (tgt := 22) F.x F.cd dX3_pipeByDirt_94 (by decide) ?_
                  exact ih22 (j + 1) (by omega)  H locs ls hW (lv_sub hl [3, 4, 5, 1, 0] rfl)
                · refine lv_iload F.x F.cd dX3_pipeByDirt_77 (lv_at hl 0 rfl) ?_
                  refine lv_if_ne (x := (pmore (ar 0) j k)) (tgt := 91) F.x F.cd dX3_pipeByDirt_79 (by decide) (fun c_79 => ?_) (fun c_79 => ?_)
                  · have hl : lv_has ls 6 [(5, .int (pmore (ar 0) j k)), (0, .ref m), (1, .int rk), (2, .int (nI k)), (3, .int (nI (aheadPN (ar 0) k (j + 1)))), (4, .int (nI j))] := by rw [show aheadPN (ar 0) k (j + 1) = aheadPN (ar 0) k j by rw [aheadPN, if_neg (by unfold aheadP; first | (simp [c_74, c_79]; done) | (simp [c_74, c_79]; omega) | (simp at c_79; simp [c_74, c_79]; done) | (simp at c_79; simp [c_74, c_79]; omega)), Nat.add_zero]]; exact hl
                    refine lv_iinc (k := 5) (v := (nI (j + 1))) (lv' := [(4, .int (nI (j + 1))), (5, .int (pmore (ar 0) j k)), (0, .ref m), (1, .int rk), (2, .int (nI k)), (3, .int (nI (aheadPN (ar 0) k (j + 1))))]) F.x F.cd dX3_pipeByDirt_91 hl rfl (inc_nI j 1) (by decide) rfl (fun ls hl => ?_)
                    refine lv_goto (tgt := 22) F.x F.cd dX3_pipeByDirt_94 (by decide) ?_
                    exact ih22 (j + 1) (by omega)  H locs ls hW (lv_sub hl [2, 3, 4, 5, 0] rfl)
                  · refine lv_iload F.x F.cd dX3_pipeByDirt_82 (lv_at hl 5 rfl) ?_
                    refine lv_iload_n F.x F.cd dX3_pipeByDirt_84 rfl (lv_at hl 3 rfl) ?_
                    refine n_icmp_ge (a := j) (b := k) (tgt := 91) F (by omega) (by omega) dX3_pipeByDirt_85 (by decide) (fun c_85 => ?_) (fun c_85 => ?_)
                    · have hl : lv_has ls 6 [(5, .int (pmore (ar 0) j k)), (0, .ref m), (1, .int rk), (2, .int (nI k)), (3, .int (nI (aheadPN (ar 0) k (j + 1)))), (4, .int (nI j))] := by rw [show aheadPN (ar 0) k (j + 1) = aheadPN (ar 0) k j by rw [aheadPN, if_neg (by unfold aheadP; first | (simp [c_74, c_79, c_85]; done) | (simp [c_74, c_79, c_85]; omega) | (simp at c_79; simp [c_74, c_79, c_85]; done) | (simp at c_79; simp [c_74, c_79, c_85]; omega)), Nat.add_zero]]; exact hl
                      refine lv_iinc (k := 5) (v := (nI (j + 1))) (lv' := [(4, .int (nI (j + 1))), (5, .int (pmore (ar 0) j k)), (0, .ref m), (1, .int rk), (2, .int (nI k)), (3, .int (nI (aheadPN (ar 0) k (j + 1))))]) F.x F.cd dX3_pipeByDirt_91 hl rfl (inc_nI j 1) (by decide) rfl (fun ls hl => ?_)
                      refine lv_goto (tgt := 22) F.x F.cd dX3_pipeByDirt_94 (by decide) ?_
                      exact ih22 (j + 1) (by omega)  H locs ls hW (lv_sub hl [2, 3, 4, 5, 0] rfl)
                    · refine lv_iinc (k := 4) (v := (nI (aheadPN (ar 0) k j + 1))) (lv' := [(3, .int (nI (aheadPN (ar 0) k j + 1))), (5, .int (pmore (ar 0) j k)), (0, .ref m), (1, .int rk), (2, .int (nI k)), (4, .int (nI j))]) F.x F.cd dX3_pipeByDirt_88 hl rfl (inc_nI (aheadPN (ar 0) k j) 1) (by decide) rfl (fun ls hl => ?_)
                      have hl : lv_has ls 6 [(3, .int (nI (aheadPN (ar 0) k (j + 1)))), (5, .int (pmore (ar 0) j k)), (0, .ref m), (1, .int rk), (2, .int (nI k)), (4, .int (nI j))] := by rw [show aheadPN (ar 0) k (j + 1) = aheadPN (ar 0) k j + 1 by rw [aheadPN, if_pos (by unfold aheadP; first | (simp [c_74, c_79, c_85]; done) | (simp [c_74, c_79, c_85]; omega) | (simp at c_79; simp [c_74, c_79, c_85]; done) | (simp at c_79; simp [c_74, c_79, c_85]; omega))]]; exact hl
                      refine lv_iinc (k := 5) (v := (nI (j + 1))) (lv' := [(4, .int (nI (j + 1))), (3, .int (nI (aheadPN (ar 0) k (j + 1)))), (5, .int (pmore (ar 0) j k)), (0, .ref m), (1, .int rk), (2, .int (nI k))]) F.x F.cd dX3_pipeByDirt_91 hl rfl (inc_nI j 1) (by decide) rfl (fun ls hl => ?_)
                      refine lv_goto (tgt := 22) F.x F.cd dX3_pipeByDirt_94 (by decide) ?_
                      exact ih22 (j + 1) (by omega)  H locs ls hW (lv_sub hl [3, 4, 5, 1, 0] rfl)
        exact loop22 (ar 0 1) 0 (by omega)  H locs ls hW (lv_sub hl [2, 3, 4, 1, 0] rfl)
  exact loop7 (ar 0 1) 0 (by omega) (rfl) H locs ls hW (lv_sub hl [1, 2, 0] rfl)
set_option maxHeartbeats 4000000 in
theorem k_X3_fingerprint (g : Gh) (l : Launch) (σ : Sto) (m : Nat) (A : Nat → Nat) (iv : Nat → Int32) (wd : Nat) (ar : Nat → Nat → Nat) (rb : Nat → Bool)  (hw : IsTw g σ m A iv wd ar rb) (hI : Inv (ar 0)) : Ct g l yX3_fingerprint cX3_fingerprint 4 (some .long) ({ frames := 1, cells := 0, slots := 0, locals := 22 } : Room) [.ref m] σ (fun r σ' => r = some (.long (prP (ar 0) (ar 0 1))) ∧ IsTw g σ' m A (va_up iv 17 (nI 0)) wd ar rb ∧ Fm σ σ' m A) (nox) := by
  refine Ct.body (by decide) (Nat.le_of_ble_eq_true rfl) ?_
  intro p_ e_ s_ m_ args_ below_ meth_ c_ ls H locs Q F hW hl hQ
  have hl : lv_has ls 4 [(0, .ref m)] := hl
  obtain ⟨t0, tb0, ta0, ta1, ta2, ta3, ta4, ta5, ta6, ta7, tbb, tii⟩ := id hw
  have hv0 := hI.1
  have hv1 := hI.2.1
  refine lv_aload_n F.x F.cd dX3_fingerprint_0 rfl (lv_at hl 0 rfl) ?_
  refine lv_iconst (v := (nI 0)) F.x F.cd dX3_fingerprint_1 (by decide) ?_
  refine s_put F hW (ci := 7) (C := RX3) (T := TX3) (N := 18) (v := .int (nI 0)) (ty := .int) (t0) (tb0) rfl in_X3 tyX3_ok nmX3 17 (by decide) q2296 (fun _ h9 => h9) rfl (by decide +kernel) rfl rfl (Nat.le_of_ble_eq_true rfl) dX3_fingerprint_2 (fun H locs hW => ?_)
  obtain ⟨σ2, hσ2⟩ : ∃ z, z = sset σ m (.inr (7, [.ref (A 0), .ref (A 1), .ref (A 2), .int (iv 3), .ref (A 3), .int (iv 5), .ref (A 4), .ref (A 5), .int (iv 8), .ref (A 6), .int (iv 10), .int (iv 11), .ref wd, .ref (A 7), .int (iv 14), .int (iv 15), .int (iv 16), .int (nI 0)])) := ⟨_, rfl⟩
  have hW : Hl g σ2 H locs := by rw [hσ2]; exact hW
  have w2 : σ2 m = some (.inr (7, [.ref (A 0), .ref (A 1), .ref (A 2), .int (iv 3), .ref (A 3), .int (iv 5), .ref (A 4), .ref (A 5), .int (iv 8), .ref (A 6), .int (iv 10), .int (iv 11), .ref wd, .ref (A 7), .int (iv 14), .int (iv 15), .int (iv 16), .int (nI 0)])) := by rw [hσ2]; exact sset_eq
  have f3 : σ2 (A 0) = some (eI g 0 114 (fun x9 => nI ((ar 0) x9))) := by rw [hσ2, sset_ne (sto_ne t0 ta0 (by simp))]; exact ta0
  have f4 : σ2 (A 1) = some (eI g 0 114 (fun x9 => nI ((ar 1) x9))) := by rw [hσ2, sset_ne (sto_ne t0 ta1 (by simp))]; exact ta1
  have f5 : σ2 (A 2) = some (eI g 0 912 (fun x9 => nI ((ar 2) x9))) := by rw [hσ2, sset_ne (sto_ne t0 ta2 (by simp))]; exact ta2
  have f6 : σ2 (A 3) = some (eI g 0 114 (fun x9 => nI ((ar 3) x9))) := by rw [hσ2, sset_ne (sto_ne t0 ta3 (by simp))]; exact ta3
  have f7 : σ2 (A 4) = some (eI g 2 2048 (fun x9 => bI (rb x9))) := by rw [hσ2, sset_ne (sto_ne t0 ta4 (by simp))]; exact ta4
  have f8 : σ2 (A 5) = some (eI g 3 60 (fun x9 => nI ((ar 5) x9))) := by rw [hσ2, sset_ne (sto_ne t0 ta5 (by simp))]; exact ta5
  have f9 : σ2 (A 6) = some (eI g 3 60 (fun x9 => nI ((ar 6) x9))) := by rw [hσ2, sset_ne (sto_ne t0 ta6 (by simp))]; exact ta6
  have f10 : σ2 (A 7) = some (eI g 0 3 (fun x9 => nI ((ar 7) x9))) := by rw [hσ2, sset_ne (sto_ne t0 ta7 (by simp))]; exact ta7
  refine lv_ldc2 (v := (17 : Int64)) F.x F.cd F.ow (F.ts _ q2649) dX3_fingerprint_5 ?_
  refine lv_lstore_n (lv' := [(1, .long (17 : Int64)), (0, .ref m)]) F.x F.cd dX3_fingerprint_8 rfl hl (by decide) rfl (fun ls hl => ?_)
  refine lv_iconst (v := (nI 0)) F.x F.cd dX3_fingerprint_9 (by decide) ?_
  refine lv_istore_n (lv' := [(3, .int (nI 0)), (1, .long (17 : Int64)), (0, .ref m)]) F.x F.cd dX3_fingerprint_10 rfl hl (by decide) rfl (fun ls hl => ?_)
  have loop11 : ∀ (n : Nat) (k : Nat), k + n = ar 0 0 → ∀ (H : Heap) (locs : List Loc) (ls : Array Slot), Hl g σ2 H locs → lv_has ls 4 [(0, .ref m), (1, .long (prT (ar 0) k)), (3, .int (nI k))] → W p_ l e_ ({ frames := 1, cells := 0, slots := 0, locals := 22 } : Room) s_ m_ args_ below_ meth_ c_ H locs 0 0 Q (F0 m_ 11 ls ([])) := by
    intro n
    induction n with
    | zero =>
      intro k hkn  H locs ls hW hl
      refine lv_iload_n F.x F.cd dX3_fingerprint_11 rfl (lv_at hl 2 rfl) ?_
      refine lv_aload_n F.x F.cd dX3_fingerprint_12 rfl (lv_at hl 0 rfl) ?_
      refine s_get F hW (ci := 7) (C := RX3) (T := TX3) (N := 18) (v := .ref (A 0)) (w2) rfl in_X3 0 (by decide) q2279 (fun _ h9 => h9) rfl dX3_fingerprint_13 ?_
      refine lv_iconst (v := (nI 0)) F.x F.cd dX3_fingerprint_16 (by decide) ?_
      refine n_iald (i := 0) (n := 114) (f := (fun x9 => nI ((ar 0) x9))) (x := (nI (ar 0 0))) F hW (f3) (by omega) (by omega) (rfl) dX3_fingerprint_17 ?_
      refine n_icmp_ge (a := k) (b := ar 0 0) (tgt := 68) F (by omega) (by omega) dX3_fingerprint_18 (by decide) (fun c_18 => ?_) (fun c_18 => ?_)
      · have hl : lv_has ls 4 [(0, .ref m), (1, .long (prP (ar 0) 0)), (3, .int (nI k))] := by rw [← (show prT (ar 0) k = prP (ar 0) 0 by rw [show k = ar 0 0 by omega]; rfl)]; exact hl
        refine lv_iconst (v := (nI 0)) F.x F.cd dX3_fingerprint_68 (by decide) ?_
        refine lv_istore_n (lv' := [(3, .int (nI 0)), (0, .ref m), (1, .long (prP (ar 0) 0))]) F.x F.cd dX3_fingerprint_69 rfl hl (by decide) rfl (fun ls hl => ?_)
        have loop70 : ∀ (z : Nat) (j : Nat), j + z = ar 0 1 → ∀ (H : Heap) (locs : List Loc) (ls : Array Slot), Hl g σ2 H locs → lv_has ls 4 [(0, .ref m), (1, .long (prP (ar 0) j)), (3, .int (nI j))] → W p_ l e_ ({ frames := 1, cells := 0, slots := 0, locals := 22 } : Room) s_ m_ args_ below_ meth_ c_ H locs 0 0 Q (F0 m_ 70 ls ([])) := by
          intro z
          induction z with
          | zero =>
            intro j hkz  H locs ls hW hl
            refine lv_iload_n F.x F.cd dX3_fingerprint_70 rfl (lv_at hl 2 rfl) ?_
            refine lv_aload_n F.x F.cd dX3_fingerprint_71 rfl (lv_at hl 0 rfl) ?_
            refine s_get F hW (ci := 7) (C := RX3) (T := TX3) (N := 18) (v := .ref (A 0)) (w2) rfl in_X3 0 (by decide) q2279 (fun _ h9 => h9) rfl dX3_fingerprint_72 ?_
            refine lv_iconst (v := (nI 1)) F.x F.cd dX3_fingerprint_75 (by decide) ?_
            refine n_iald (i := 1) (n := 114) (f := (fun x9 => nI ((ar 0) x9))) (x := (nI (ar 0 1))) F hW (f3) (by omega) (by omega) (rfl) dX3_fingerprint_76 ?_
            refine n_icmp_ge (a := j) (b := ar 0 1) (tgt := 140) F (by omega) (by omega) dX3_fingerprint_77 (by decide) (fun c_77 => ?_) (fun c_77 => ?_)
            · refine lv_lload_n F.x F.cd dX3_fingerprint_140 rfl (lv_at hl 1 rfl) ?_
              have tw11 : IsTw g σ2 m A (va_up iv 17 (nI 0)) wd ar rb := ⟨w2, tb0, f3, f4, f5, f6, f7, f8, f9, f10, tbb, tii⟩
              have fm11 : Fm σ σ2 m A := by rw [hσ2]; exact (Fm.refl).setM
              subst hQ
              exact s_retl (v := (prP (ar 0) j)) F hW (⟨by rw [show j = ar 0 1 by omega], tw11, fm11⟩) ⟨(Nat.le_of_ble_eq_true rfl), (Nat.le_of_ble_eq_true rfl)⟩ dX3_fingerprint_141
            · exact absurd c_77 (by omega)
          | succ z ih70 =>
            intro j hkz  H locs ls hW hl
            refine lv_iload_n F.x F.cd dX3_fingerprint_70 rfl (lv_at hl 2 rfl) ?_
            refine lv_aload_n F.x F.cd dX3_fingerprint_71 rfl (lv_at hl 0 rfl) ?_
            refine s_get F hW (ci := 7) (C := RX3) (T := TX3) (N := 18) (v := .ref (A 0)) (w2) rfl in_X3 0 (by decide) q2279 (fun _ h9 => h9) rfl dX3_fingerprint_72 ?_
            refine lv_iconst (v := (nI 1)) F.x F.cd dX3_fingerprint_75 (by decide) ?_
            refine n_iald (i := 1) (n := 114) (f := (fun x9 => nI ((ar 0) x9))) (x := (nI (ar 0 1))) F hW (f3) (by omega) (by omega) (rfl) dX3_fingerprint_76 ?_
            refine n_icmp_ge (a := j) (b := ar 0 1) (tgt := 140) F (by omega) (by omega) dX3_fingerprint_77 (by decide) (fun c_77 => ?_) (fun c_77 => ?_)
            · exact absurd c_77 (by omega)
            · have hpp := hI.pp (q := j) (by omega)
              refine lv_lload_n F.x F.cd dX3_fingerprint_80 rfl (lv_at hl 1 rfl) ?_
              refine lv_bipush (v := (nI 7)) F.x F.cd dX3_fingerprint_81 (by decide) ?_
              refine lv_lshl (v := ((prP (ar 0) j) <<< (Int32.toInt64 (nI 7) &&& 63))) F.x F.cd dX3_fingerprint_83 (rfl) ?_
              refine lv_lload_n F.x F.cd dX3_fingerprint_84 rfl (lv_at hl 1 rfl) ?_
              refine lv_bipush (v := (nI 57)) F.x F.cd dX3_fingerprint_85 (by decide) ?_
              refine lv_lushr (v := ((Int64.toUInt64 (prP (ar 0) j) >>> ((Int32.toInt64 (nI 57)).toUInt64 &&& Int64.toUInt64 63)).toInt64)) F.x F.cd dX3_fingerprint_87 (rfl) ?_
              refine a_lor (v := (rot7 (prP (ar 0) j))) F (rfl) dX3_fingerprint_88 ?_
              refine lv_aload_n F.x F.cd dX3_fingerprint_89 rfl (lv_at hl 0 rfl) ?_
              refine lv_iload_n F.x F.cd dX3_fingerprint_90 rfl (lv_at hl 2 rfl) ?_
              refine lv_iconst (v := (nI 3)) F.x F.cd dX3_fingerprint_91 (by decide) ?_
              have tw12 : IsTw g σ2 m A (va_up iv 17 (nI 0)) wd ar rb := ⟨w2, tb0, f3, f4, f5, f6, f7, f8, f9, f10, tbb, tii⟩
              have fm12 : Fm σ σ2 m A := by rw [hσ2]; exact (Fm.refl).setM
              refine s_callV (As := [.int (nI j), .int (nI 3)]) (rest := [.long (rot7 (prP (ar 0) j))]) (C := RX3) (T := TX3) (N := 18) (n := 2) F hW (k_X3_pipe g l σ2 m A _ _ _ _ j 3 tw12 (by omega) (by omega)) (w2) rfl q2406 q2408 qs44 q79 q2409 rfl (by decide +kernel) rfl ⟨⟨Nat.le_of_ble_eq_true rfl, Nat.le_of_ble_eq_true rfl⟩, ⟨(Nat.le_of_ble_eq_true rfl), (Nat.le_of_ble_eq_true rfl)⟩⟩ (Nat.le_of_ble_eq_true rfl) hl.1 rfl dX3_fingerprint_92 cX_no (fun r13 σ13 H locs hp13 hW => ?_)
              obtain ⟨rfl, hs13⟩ := hp13
              rw [hs13] at hW
              refine W.eq (g2 := F0 m_ 95 ls (.int (nI (pV (ar 0) j)) :: .long (rot7 (prP (ar 0) j)) :: [])) rfl ?_
              refine lv_i2l (v := (lN (pV (ar 0) j))) F.x F.cd dX3_fingerprint_95 (nl_i2l (by omega)) ?_
              refine lv_ldc2 (v := (5 : Int64)) F.x F.cd F.ow (F.ts _ q2652) dX3_fingerprint_96 ?_
              refine lv_aload_n F.x F.cd dX3_fingerprint_99 rfl (lv_at hl 0 rfl) ?_
              refine lv_iload_n F.x F.cd dX3_fingerprint_100 rfl (lv_at hl 2 rfl) ?_
              refine lv_iconst (v := (nI 5)) F.x F.cd dX3_fingerprint_101 (by decide) ?_
              refine s_callV (As := [.int (nI j), .int (nI 5)]) (rest := [.long (5 : Int64), .long (lN (pV (ar 0) j)), .long (rot7 (prP (ar 0) j))]) (C := RX3) (T := TX3) (N := 18) (n := 2) F hW (k_X3_pipe g l σ2 m A _ _ _ _ j 5 tw12 (by omega) (by omega)) (w2) rfl q2406 q2408 qs44 q79 q2409 rfl (by decide +kernel) rfl ⟨⟨Nat.le_of_ble_eq_true rfl, Nat.le_of_ble_eq_true rfl⟩, ⟨(Nat.le_of_ble_eq_true rfl), (Nat.le_of_ble_eq_true rfl)⟩⟩ (Nat.le_of_ble_eq_true rfl) hl.1 rfl dX3_fingerprint_102 cX_no (fun r14 σ14 H locs hp14 hW => ?_)
              obtain ⟨rfl, hs14⟩ := hp14
              rw [hs14] at hW
              refine W.eq (g2 := F0 m_ 105 ls (.int (nI (pD (ar 0) j)) :: .long (5 : Int64) :: .long (lN (pV (ar 0) j)) :: .long (rot7 (prP (ar 0) j)) :: [])) rfl ?_
              refine lv_i2l (v := (lN (pD (ar 0) j))) F.x F.cd dX3_fingerprint_105 (nl_i2l (by omega)) ?_
              refine a_lmul (v := (lN (5 * (pD (ar 0) j)))) F (lN_mul 5 _) dX3_fingerprint_106 ?_
              refine a_ladd (v := (lN (pV (ar 0) j + 5 * (pD (ar 0) j)))) F (lN_add _ _) dX3_fingerprint_107 ?_
              refine lv_ldc2 (v := (1000 : Int64)) F.x F.cd F.ow (F.ts _ q2650) dX3_fingerprint_108 ?_
              refine lv_aload_n F.x F.cd dX3_fingerprint_111 rfl (lv_at hl 0 rfl) ?_
              refine lv_iload_n F.x F.cd dX3_fingerprint_112 rfl (lv_at hl 2 rfl) ?_
              refine lv_iconst (v := (nI 4)) F.x F.cd dX3_fingerprint_113 (by decide) ?_
              refine s_callV (As := [.int (nI j), .int (nI 4)]) (rest := [.long (1000 : Int64), .long (lN (pV (ar 0) j + 5 * (pD (ar 0) j))), .long (rot7 (prP (ar 0) j))]) (C := RX3) (T := TX3) (N := 18) (n := 2) F hW (k_X3_pipe g l σ2 m A _ _ _ _ j 4 tw12 (by omega) (by omega)) (w2) rfl q2406 q2408 qs44 q79 q2409 rfl (by decide +kernel) rfl ⟨⟨Nat.le_of_ble_eq_true rfl, Nat.le_of_ble_eq_true rfl⟩, ⟨(Nat.le_of_ble_eq_true rfl), (Nat.le_of_ble_eq_true rfl)⟩⟩ (Nat.le_of_ble_eq_true rfl) hl.1 rfl dX3_fingerprint_114 cX_no (fun r15 σ15 H locs hp15 hW => ?_)
              obtain ⟨rfl, hs15⟩ := hp15
              rw [hs15] at hW
              refine W.eq (g2 := F0 m_ 117 ls (.int (nI (pR (ar 0) j)) :: .long (1000 : Int64) :: .long (lN (pV (ar 0) j + 5 * (pD (ar 0) j))) :: .long (rot7 (prP (ar 0) j)) :: [])) rfl ?_
              refine lv_i2l (v := (lN (pR (ar 0) j))) F.x F.cd dX3_fingerprint_117 (nl_i2l (by omega)) ?_
              refine a_lmul (v := (lN (1000 * (pR (ar 0) j)))) F (lN_mul 1000 _) dX3_fingerprint_118 ?_
              refine a_ladd (v := (lN (pV (ar 0) j + 5 * (pD (ar 0) j) + 1000 * (pR (ar 0) j)))) F (lN_add _ _) dX3_fingerprint_119 ?_
              refine lv_ldc2 (v := (10000 : Int64)) F.x F.cd F.ow (F.ts _ q2653) dX3_fingerprint_120 ?_
              refine lv_aload_n F.x F.cd dX3_fingerprint_123 rfl (lv_at hl 0 rfl) ?_
              refine lv_iload_n F.x F.cd dX3_fingerprint_124 rfl (lv_at hl 2 rfl) ?_
              refine lv_iconst (v := (nI 2)) F.x F.cd dX3_fingerprint_125 (by decide) ?_
              refine s_callV (As := [.int (nI j), .int (nI 2)]) (rest := [.long (10000 : Int64), .long (lN (pV (ar 0) j + 5 * (pD (ar 0) j) + 1000 * (pR (ar 0) j))), .long (rot7 (prP (ar 0) j))]) (C := RX3) (T := TX3) (N := 18) (n := 2) F hW (k_X3_pipe g l σ2 m A _ _ _ _ j 2 tw12 (by omega) (by omega)) (w2) rfl q2406 q2408 qs44 q79 q2409 rfl (by decide +kernel) rfl ⟨⟨Nat.le_of_ble_eq_true rfl, Nat.le_of_ble_eq_true rfl⟩, ⟨(Nat.le_of_ble_eq_true rfl), (Nat.le_of_ble_eq_true rfl)⟩⟩ (Nat.le_of_ble_eq_true rfl) hl.1 rfl dX3_fingerprint_126 cX_no (fun r16 σ16 H locs hp16 hW => ?_)
              obtain ⟨rfl, hs16⟩ := hp16
              rw [hs16] at hW
              refine W.eq (g2 := F0 m_ 129 ls (.int (nI (pM (ar 0) j)) :: .long (10000 : Int64) :: .long (lN (pV (ar 0) j + 5 * (pD (ar 0) j) + 1000 * (pR (ar 0) j))) :: .long (rot7 (prP (ar 0) j)) :: [])) rfl ?_
              refine lv_i2l (v := (lN (pM (ar 0) j))) F.x F.cd dX3_fingerprint_129 (nl_i2l (by omega)) ?_
              refine a_lmul (v := (lN (10000 * (pM (ar 0) j)))) F (lN_mul 10000 _) dX3_fingerprint_130 ?_
              refine a_ladd (v := (lN (pV (ar 0) j + 5 * (pD (ar 0) j) + 1000 * (pR (ar 0) j) + 10000 * (pM (ar 0) j)))) F (lN_add _ _) dX3_fingerprint_131 ?_
              refine a_lxor (v := ((rot7 (prP (ar 0) j)) ^^^ (lN (pV (ar 0) j + 5 * (pD (ar 0) j) + 1000 * (pR (ar 0) j) + 10000 * (pM (ar 0) j))))) F (rfl) dX3_fingerprint_132 ?_
              refine lv_lstore_n (lv' := [(1, .long ((rot7 (prP (ar 0) j)) ^^^ (lN (pV (ar 0) j + 5 * (pD (ar 0) j) + 1000 * (pR (ar 0) j) + 10000 * (pM (ar 0) j))))), (0, .ref m), (3, .int (nI j))]) F.x F.cd dX3_fingerprint_133 rfl hl (by decide) rfl (fun ls hl => ?_)
              refine lv_iinc (k := 2) (v := (nI (j + 1))) (lv' := [(3, .int (nI (j + 1))), (1, .long ((rot7 (prP (ar 0) j)) ^^^ (lN (pV (ar 0) j + 5 * (pD (ar 0) j) + 1000 * (pR (ar 0) j) + 10000 * (pM (ar 0) j))))), (0, .ref m)]) F.x F.cd dX3_fingerprint_134 hl rfl (inc_nI j 1) (by decide) rfl (fun ls hl => ?_)
              refine lv_goto (tgt := 70) F.x F.cd dX3_fingerprint_137 (by decide) ?_
              exact ih70 (j + 1) (by omega)  H locs ls hW (lv_sub hl [2, 1, 0] rfl)
        exact loop70 (ar 0 1) 0 (by omega)  H locs ls hW (lv_sub hl [1, 2, 0] rfl)
      · exact absurd c_18 (by omega)
    | succ n ih11 =>
      intro k hkn  H locs ls hW hl
      refine lv_iload_n F.x F.cd dX3_fingerprint_11 rfl (lv_at hl 2 rfl) ?_
      refine lv_aload_n F.x F.cd dX3_fingerprint_12 rfl (lv_at hl 0 rfl) ?_
      refine s_get F hW (ci := 7) (C := RX3) (T := TX3) (N := 18) (v := .ref (A 0)) (w2) rfl in_X3 0 (by decide) q2279 (fun _ h9 => h9) rfl dX3_fingerprint_13 ?_
      refine lv_iconst (v := (nI 0)) F.x F.cd dX3_fingerprint_16 (by decide) ?_
      refine n_iald (i := 0) (n := 114) (f := (fun x9 => nI ((ar 0) x9))) (x := (nI (ar 0 0))) F hW (f3) (by omega) (by omega) (rfl) dX3_fingerprint_17 ?_
      refine n_icmp_ge (a := k) (b := ar 0 0) (tgt := 68) F (by omega) (by omega) dX3_fingerprint_18 (by decide) (fun c_18 => ?_) (fun c_18 => ?_)
      · exact absurd c_18 (by omega)
      · have htk := hI.tk (t := k) (by omega)
        refine lv_lload_n F.x F.cd dX3_fingerprint_21 rfl (lv_at hl 1 rfl) ?_
        refine lv_iconst (v := (nI 5)) F.x F.cd dX3_fingerprint_22 (by decide) ?_
        refine lv_lshl (v := ((prT (ar 0) k) <<< (Int32.toInt64 (nI 5) &&& 63))) F.x F.cd dX3_fingerprint_23 (rfl) ?_
        refine lv_lload_n F.x F.cd dX3_fingerprint_24 rfl (lv_at hl 1 rfl) ?_
        refine lv_bipush (v := (nI 59)) F.x F.cd dX3_fingerprint_25 (by decide) ?_
        refine lv_lushr (v := ((Int64.toUInt64 (prT (ar 0) k) >>> ((Int32.toInt64 (nI 59)).toUInt64 &&& Int64.toUInt64 63)).toInt64)) F.x F.cd dX3_fingerprint_27 (rfl) ?_
        refine a_lor (v := (rot5 (prT (ar 0) k))) F (rfl) dX3_fingerprint_28 ?_
        refine lv_aload_n F.x F.cd dX3_fingerprint_29 rfl (lv_at hl 0 rfl) ?_
        refine lv_iload_n F.x F.cd dX3_fingerprint_30 rfl (lv_at hl 2 rfl) ?_
        refine lv_iconst (v := (nI 1)) F.x F.cd dX3_fingerprint_31 (by decide) ?_
        have tw17 : IsTw g σ2 m A (va_up iv 17 (nI 0)) wd ar rb := ⟨w2, tb0, f3, f4, f5, f6, f7, f8, f9, f10, tbb, tii⟩
        have fm17 : Fm σ σ2 m A := by rw [hσ2]; exact (Fm.refl).setM
        refine s_callV (As := [.int (nI k), .int (nI 1)]) (rest := [.long (rot5 (prT (ar 0) k))]) (C := RX3) (T := TX3) (N := 18) (n := 2) F hW (k_X3_tank g l σ2 m A _ _ _ _ k 1 tw17 (by omega) (by omega)) (w2) rfl q2438 q2440 qs49 q79 q2441 rfl (by decide +kernel) rfl ⟨⟨Nat.le_of_ble_eq_true rfl, Nat.le_of_ble_eq_true rfl⟩, ⟨(Nat.le_of_ble_eq_true rfl), (Nat.le_of_ble_eq_true rfl)⟩⟩ (Nat.le_of_ble_eq_true rfl) hl.1 rfl dX3_fingerprint_32 cX_no (fun r18 σ18 H locs hp18 hW => ?_)
        obtain ⟨rfl, hs18⟩ := hp18
        rw [hs18] at hW
        refine W.eq (g2 := F0 m_ 35 ls (.int (nI (tK (ar 0) k)) :: .long (rot5 (prT (ar 0) k)) :: [])) rfl ?_
        refine lv_i2l (v := (lN (tK (ar 0) k))) F.x F.cd dX3_fingerprint_35 (nl_i2l (by omega)) ?_
        refine lv_ldc2 (v := (1000 : Int64)) F.x F.cd F.ow (F.ts _ q2650) dX3_fingerprint_36 ?_
        refine lv_aload_n F.x F.cd dX3_fingerprint_39 rfl (lv_at hl 0 rfl) ?_
        refine lv_iload_n F.x F.cd dX3_fingerprint_40 rfl (lv_at hl 2 rfl) ?_
        refine lv_iconst (v := (nI 0)) F.x F.cd dX3_fingerprint_41 (by decide) ?_
        refine s_callV (As := [.int (nI k), .int (nI 0)]) (rest := [.long (1000 : Int64), .long (lN (tK (ar 0) k)), .long (rot5 (prT (ar 0) k))]) (C := RX3) (T := TX3) (N := 18) (n := 2) F hW (k_X3_tank g l σ2 m A _ _ _ _ k 0 tw17 (by omega) (by omega)) (w2) rfl q2438 q2440 qs49 q79 q2441 rfl (by decide +kernel) rfl ⟨⟨Nat.le_of_ble_eq_true rfl, Nat.le_of_ble_eq_true rfl⟩, ⟨(Nat.le_of_ble_eq_true rfl), (Nat.le_of_ble_eq_true rfl)⟩⟩ (Nat.le_of_ble_eq_true rfl) hl.1 rfl dX3_fingerprint_42 cX_no (fun r19 σ19 H locs hp19 hW => ?_)
        obtain ⟨rfl, hs19⟩ := hp19
        rw [hs19] at hW
        refine W.eq (g2 := F0 m_ 45 ls (.int (nI (tC (ar 0) k)) :: .long (1000 : Int64) :: .long (lN (tK (ar 0) k)) :: .long (rot5 (prT (ar 0) k)) :: [])) rfl ?_
        refine lv_i2l (v := (lN (tC (ar 0) k))) F.x F.cd dX3_fingerprint_45 (nl_i2l (by omega)) ?_
        refine a_lmul (v := (lN (1000 * (tC (ar 0) k)))) F (lN_mul 1000 _) dX3_fingerprint_46 ?_
        refine a_ladd (v := (lN (tK (ar 0) k + 1000 * (tC (ar 0) k)))) F (lN_add _ _) dX3_fingerprint_47 ?_
        refine lv_ldc2 (v := (1000000 : Int64)) F.x F.cd F.ow (F.ts _ q2651) dX3_fingerprint_48 ?_
        refine lv_aload_n F.x F.cd dX3_fingerprint_51 rfl (lv_at hl 0 rfl) ?_
        refine lv_iload_n F.x F.cd dX3_fingerprint_52 rfl (lv_at hl 2 rfl) ?_
        refine lv_iconst (v := (nI 2)) F.x F.cd dX3_fingerprint_53 (by decide) ?_
        refine s_callV (As := [.int (nI k), .int (nI 2)]) (rest := [.long (1000000 : Int64), .long (lN (tK (ar 0) k + 1000 * (tC (ar 0) k))), .long (rot5 (prT (ar 0) k))]) (C := RX3) (T := TX3) (N := 18) (n := 2) F hW (k_X3_tank g l σ2 m A _ _ _ _ k 2 tw17 (by omega) (by omega)) (w2) rfl q2438 q2440 qs49 q79 q2441 rfl (by decide +kernel) rfl ⟨⟨Nat.le_of_ble_eq_true rfl, Nat.le_of_ble_eq_true rfl⟩, ⟨(Nat.le_of_ble_eq_true rfl), (Nat.le_of_ble_eq_true rfl)⟩⟩ (Nat.le_of_ble_eq_true rfl) hl.1 rfl dX3_fingerprint_54 cX_no (fun r20 σ20 H locs hp20 hW => ?_)
        obtain ⟨rfl, hs20⟩ := hp20
        rw [hs20] at hW
        refine W.eq (g2 := F0 m_ 57 ls (.int (nI (tI (ar 0) k)) :: .long (1000000 : Int64) :: .long (lN (tK (ar 0) k + 1000 * (tC (ar 0) k))) :: .long (rot5 (prT (ar 0) k)) :: [])) rfl ?_
        refine lv_i2l (v := (lN (tI (ar 0) k))) F.x F.cd dX3_fingerprint_57 (nl_i2l (by omega)) ?_
        refine a_lmul (v := (lN (1000000 * (tI (ar 0) k)))) F (lN_mul 1000000 _) dX3_fingerprint_58 ?_
        refine a_ladd (v := (lN (tK (ar 0) k + 1000 * (tC (ar 0) k) + 1000000 * (tI (ar 0) k)))) F (lN_add _ _) dX3_fingerprint_59 ?_
        refine a_lxor (v := ((rot5 (prT (ar 0) k)) ^^^ (lN (tK (ar 0) k + 1000 * (tC (ar 0) k) + 1000000 * (tI (ar 0) k))))) F (rfl) dX3_fingerprint_60 ?_
        refine lv_lstore_n (lv' := [(1, .long ((rot5 (prT (ar 0) k)) ^^^ (lN (tK (ar 0) k + 1000 * (tC (ar 0) k) + 1000000 * (tI (ar 0) k))))), (0, .ref m), (3, .int (nI k))]) F.x F.cd dX3_fingerprint_61 rfl hl (by decide) rfl (fun ls hl => ?_)
        refine lv_iinc (k := 2) (v := (nI (k + 1))) (lv' := [(3, .int (nI (k + 1))), (1, .long ((rot5 (prT (ar 0) k)) ^^^ (lN (tK (ar 0) k + 1000 * (tC (ar 0) k) + 1000000 * (tI (ar 0) k))))), (0, .ref m)]) F.x F.cd dX3_fingerprint_62 hl rfl (inc_nI k 1) (by decide) rfl (fun ls hl => ?_)
        refine lv_goto (tgt := 11) F.x F.cd dX3_fingerprint_65 (by decide) ?_
        exact ih11 (k + 1) (by omega)  H locs ls hW (lv_sub hl [2, 1, 0] rfl)
  exact loop11 (ar 0 0) 0 (by omega)  H locs ls hW (lv_sub hl [2, 1, 0] rfl)
