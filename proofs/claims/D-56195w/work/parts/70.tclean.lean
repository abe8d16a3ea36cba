/-! ===== the twin: the cleanest water ===== -/
set_option maxRecDepth 100000
def fsT (R : Nat → Bool) (n : Nat) : Nat → Bool := fun z => if z < n then false else R z
theorem fsT_0 {R : Nat → Bool} : fsT R 0 = R := funext fun z => if_neg (by omega)
theorem fsT_s {R : Nat → Bool} {n : Nat} : va_up (fsT R n) n false = fsT R (n + 1) := by
  funext z
  unfold fsT va_up
  by_cases h : z = n
  · rw [if_pos h, if_pos (by omega)]
  · rw [if_neg h]
    dsimp only
    by_cases h2 : z < n
    · rw [if_pos h2, if_pos (by omega)]
    · rw [if_neg h2, if_neg (by omega)]
set_option maxHeartbeats 4000000 in
theorem k_X3_reaches (g : Gh) (l : Launch) (σ : Sto) (m : Nat) (A : Nat → Nat) (iv : Nat → Int32) (wd : Nat) (ar : Nat → Nat → Nat) (rb : Nat → Bool) (x : Nat) (hw : IsTw g σ m A iv wd ar rb) (hI : Inv (ar 0)) (hx : x < 256) : Ct g l yX3_reaches cX3_reaches 7 none ({ frames := 2, cells := 0, slots := 0, locals := 43 } : Room) [.ref m, .int (nI x)] σ (fun r σ' => r = none ∧ IsTw g σ' m A iv wd ar (rsQ (ar 0) x rb 8) ∧ Fm σ σ' m A) (nox) := by
  refine Ct.body (by decide) (Nat.le_of_ble_eq_true rfl) ?_
  intro p_ e_ s_ m_ args_ below_ meth_ c_ ls H locs Q F hW hl hQ
  have hl : lv_has ls 7 [(0, .ref m), (1, .int (nI x))] := hl
  obtain ⟨t0, tb0, ta0, ta1, ta2, ta3, ta4, ta5, ta6, ta7, tbb, tii⟩ := id hw
  have hv0 := hI.1
  have hv1 := hI.2.1
  refine lv_iconst (v := (nI 0)) F.x F.cd dX3_reaches_0 (by decide) ?_
  refine lv_istore_n (lv' := [(2, .int (nI 0)), (0, .ref m), (1, .int (nI x))]) F.x F.cd dX3_reaches_1 rfl hl (by decide) rfl (fun ls hl => ?_)
  have loop2 : ∀ (ni : Nat) (i : Nat) (σi : Sto) , i + ni = 8 → IsTw g σi m A iv wd ar (rsQ (ar 0) x rb i) → Fm σ σi m A → ∀ (H : Heap) (locs : List Loc) (ls : Array Slot), Hl g σi H locs → lv_has ls 7 [(0, .ref m), (1, .int (nI x)), (2, .int (nI i))] → W p_ l e_ ({ frames := 2, cells := 0, slots := 0, locals := 43 } : Room) s_ m_ args_ below_ meth_ c_ H locs 0 0 Q (F0 m_ 2 ls ([])) := by
    intro ni
    induction ni with
    | zero =>
      intro i σi  hkni twi fmi H locs ls hW hl
      obtain ⟨t0_k1, -, ta0_k1, ta1_k1, ta2_k1, ta3_k1, ta4_k1, ta5_k1, ta6_k1, ta7_k1, -, -⟩ := id twi
      refine lv_iload_n F.x F.cd dX3_reaches_2 rfl (lv_at hl 2 rfl) ?_
      refine lv_bipush (v := (nI 8)) F.x F.cd dX3_reaches_3 (by decide) ?_
      refine n_icmp_ge (a := i) (b := 8) (tgt := 133) F (by omega) (by omega) dX3_reaches_5 (by decide) (fun c_5 => ?_) (fun c_5 => ?_)
      · have tw_2 : IsTw g σi m A iv wd ar (rsQ (ar 0) x rb 8) := by
          have e9 : i = 8 := by omega
          subst e9
          exact ⟨t0_k1, tb0, ta0_k1, ta1_k1, ta2_k1, ta3_k1, ta4_k1, ta5_k1, ta6_k1, ta7_k1, tbb, tii⟩
        obtain ⟨t0_2, -, ta0_2, ta1_2, ta2_2, ta3_2, ta4_2, ta5_2, ta6_2, ta7_2, -, -⟩ := id tw_2
        subst hQ
        exact s_retv F hW (⟨rfl, tw_2, fmi⟩) ⟨(Nat.le_of_ble_eq_true rfl), (Nat.le_of_ble_eq_true rfl)⟩ dX3_reaches_133
      · exact absurd c_5 (by omega)
    | succ ni ih2 =>
      intro i σi  hkni twi fmi H locs ls hW hl
      obtain ⟨t0_k1, -, ta0_k1, ta1_k1, ta2_k1, ta3_k1, ta4_k1, ta5_k1, ta6_k1, ta7_k1, -, -⟩ := id twi
      refine lv_iload_n F.x F.cd dX3_reaches_2 rfl (lv_at hl 2 rfl) ?_
      refine lv_bipush (v := (nI 8)) F.x F.cd dX3_reaches_3 (by decide) ?_
      refine n_icmp_ge (a := i) (b := 8) (tgt := 133) F (by omega) (by omega) dX3_reaches_5 (by decide) (fun c_5 => ?_) (fun c_5 => ?_)
      · exact absurd c_5 (by omega)
      · refine lv_iconst (v := (nI 0)) F.x F.cd dX3_reaches_8 (by decide) ?_
        refine lv_istore_n (lv' := [(3, .int (nI 0)), (0, .ref m), (1, .int (nI x)), (2, .int (nI i))]) F.x F.cd dX3_reaches_9 rfl hl (by decide) rfl (fun ls hl => ?_)
        have loop10 : ∀ (nj : Nat) (j : Nat) (σj : Sto) , j + nj = ar 0 1 → IsTw g σj m A iv wd ar (rsP (ar 0) x (rsQ (ar 0) x rb i) j) → Fm σ σj m A → ∀ (H : Heap) (locs : List Loc) (ls : Array Slot), Hl g σj H locs → lv_has ls 7 [(0, .ref m), (1, .int (nI x)), (2, .int (nI i)), (3, .int (nI j))] → W p_ l e_ ({ frames := 2, cells := 0, slots := 0, locals := 43 } : Room) s_ m_ args_ below_ meth_ c_ H locs 0 0 Q (F0 m_ 10 ls ([])) := by
          intro nj
          induction nj with
          | zero =>
            intro j σj  hknj twj fmj H locs ls hW hl
            obtain ⟨t0_k3, -, ta0_k3, ta1_k3, ta2_k3, ta3_k3, ta4_k3, ta5_k3, ta6_k3, ta7_k3, -, -⟩ := id twj
            refine lv_iload_n F.x F.cd dX3_reaches_10 rfl (lv_at hl 3 rfl) ?_
            refine lv_aload_n F.x F.cd dX3_reaches_11 rfl (lv_at hl 0 rfl) ?_
            refine s_get F hW (ci := 7) (C := RX3) (T := TX3) (N := 18) (v := .ref (A 0)) (t0_k3) rfl in_X3 0 (by decide) q2279 (fun _ h9 => h9) rfl dX3_reaches_12 ?_
            refine lv_iconst (v := (nI 1)) F.x F.cd dX3_reaches_15 (by decide) ?_
            refine n_iald (i := 1) (n := 114) (f := (fun x9 => nI ((ar 0) x9))) (x := (nI (ar 0 1))) F hW (ta0_k3) (by omega) (by omega) (rfl) dX3_reaches_16 ?_
            refine n_icmp_ge (a := j) (b := ar 0 1) (tgt := 127) F (by omega) (by omega) dX3_reaches_17 (by decide) (fun c_17 => ?_) (fun c_17 => ?_)
            · refine lv_iinc (k := 2) (v := (nI (i + 1))) (lv' := [(2, .int (nI (i + 1))), (0, .ref m), (1, .int (nI x)), (3, .int (nI j))]) F.x F.cd dX3_reaches_127 hl rfl (inc_nI i 1) (by decide) rfl (fun ls hl => ?_)
              refine lv_goto (tgt := 2) F.x F.cd dX3_reaches_130 (by decide) ?_
              have tw_5 : IsTw g σj m A iv wd ar (rsQ (ar 0) x rb (i + 1)) := by
                rw [rsQ, ← show j = ar 0 1 by omega]
                exact ⟨t0_k3, tb0, ta0_k3, ta1_k3, ta2_k3, ta3_k3, ta4_k3, ta5_k3, ta6_k3, ta7_k3, tbb, tii⟩
              obtain ⟨t0_5, -, ta0_5, ta1_5, ta2_5, ta3_5, ta4_5, ta5_5, ta6_5, ta7_5, -, -⟩ := id tw_5
              exact ih2 (i + 1) σj (by omega) (tw_5) (fmj) H locs ls hW (lv_sub hl [1, 2, 0] rfl)
            · exact absurd c_17 (by omega)
          | succ nj ih10 =>
            intro j σj  hknj twj fmj H locs ls hW hl
            obtain ⟨t0_k3, -, ta0_k3, ta1_k3, ta2_k3, ta3_k3, ta4_k3, ta5_k3, ta6_k3, ta7_k3, -, -⟩ := id twj
            refine lv_iload_n F.x F.cd dX3_reaches_10 rfl (lv_at hl 3 rfl) ?_
            refine lv_aload_n F.x F.cd dX3_reaches_11 rfl (lv_at hl 0 rfl) ?_
            refine s_get F hW (ci := 7) (C := RX3) (T := TX3) (N := 18) (v := .ref (A 0)) (t0_k3) rfl in_X3 0 (by decide) q2279 (fun _ h9 => h9) rfl dX3_reaches_12 ?_
            refine lv_iconst (v := (nI 1)) F.x F.cd dX3_reaches_15 (by decide) ?_
            refine n_iald (i := 1) (n := 114) (f := (fun x9 => nI ((ar 0) x9))) (x := (nI (ar 0 1))) F hW (ta0_k3) (by omega) (by omega) (rfl) dX3_reaches_16 ?_
            refine n_icmp_ge (a := j) (b := ar 0 1) (tgt := 127) F (by omega) (by omega) dX3_reaches_17 (by decide) (fun c_17 => ?_) (fun c_17 => ?_)
            · exact absurd c_17 (by omega)
            · have hjq : j < ar 0 1 := by omega
              obtain ⟨hqa, hqb, hqab, hqm, hqv, hqr, hqd⟩ := hI.pp hjq
              have hcl := clr_lt (b := pM (ar 0) j) hx
              refine lv_aload_n F.x F.cd dX3_reaches_20 rfl (lv_at hl 0 rfl) ?_
              refine lv_iload_n F.x F.cd dX3_reaches_21 rfl (lv_at hl 3 rfl) ?_
              refine s_callV (As := [.int (nI j)]) (rest := []) (C := RX3) (T := TX3) (N := 18) (n := 1) F hW (k_X3_goes g l σj m A _ _ _ _ j twj hI (by omega)) (t0_k3) rfl q2434 q2436 qs48 q79 q2437 rfl (by decide +kernel) rfl ⟨⟨Nat.le_of_ble_eq_true rfl, Nat.le_of_ble_eq_true rfl⟩, ⟨(Nat.le_of_ble_eq_true rfl), (Nat.le_of_ble_eq_true rfl)⟩⟩ (Nat.le_of_ble_eq_true rfl) hl.1 rfl dX3_reaches_22 cX_no (fun r6 σ6 H locs hp6 hW => ?_)
              obtain ⟨rfl, hs6⟩ := hp6
              rw [hs6] at hW
              refine W.eq (g2 := F0 m_ 25 ls (.int (bI (opv (ar 0) j)) :: [])) rfl ?_
              refine b_if_ne (b := (opv (ar 0) j)) (tgt := 31) F dX3_reaches_25 (by decide) (fun c_25 => ?_) (fun c_25 => ?_)
              · refine lv_aload_n F.x F.cd dX3_reaches_31 rfl (lv_at hl 0 rfl) ?_
                refine lv_iload_n F.x F.cd dX3_reaches_32 rfl (lv_at hl 3 rfl) ?_
                refine lv_iconst (v := (nI 0)) F.x F.cd dX3_reaches_33 (by decide) ?_
                refine s_callV (As := [.int (nI j), .int (nI 0)]) (rest := []) (C := RX3) (T := TX3) (N := 18) (n := 2) F hW (k_X3_pipe g l σj m A _ _ _ _ j 0 twj (by omega) (by omega)) (t0_k3) rfl q2406 q2408 qs44 q79 q2409 rfl (by decide +kernel) rfl ⟨⟨Nat.le_of_ble_eq_true rfl, Nat.le_of_ble_eq_true rfl⟩, ⟨(Nat.le_of_ble_eq_true rfl), (Nat.le_of_ble_eq_true rfl)⟩⟩ (Nat.le_of_ble_eq_true rfl) hl.1 rfl dX3_reaches_34 cX_no (fun r7 σ7 H locs hp7 hW => ?_)
                obtain ⟨rfl, hs7⟩ := hp7
                rw [hs7] at hW
                refine W.eq (g2 := F0 m_ 37 ls (.int (nI (pA (ar 0) j)) :: [])) rfl ?_
                refine lv_istore (lv' := [(4, .int (nI (pA (ar 0) j))), (0, .ref m), (1, .int (nI x)), (2, .int (nI i)), (3, .int (nI j))]) F.x F.cd dX3_reaches_37 hl (by decide) rfl (fun ls hl => ?_)
                refine lv_aload_n F.x F.cd dX3_reaches_39 rfl (lv_at hl 1 rfl) ?_
                refine lv_iload_n F.x F.cd dX3_reaches_40 rfl (lv_at hl 4 rfl) ?_
                refine lv_iconst (v := (nI 1)) F.x F.cd dX3_reaches_41 (by decide) ?_
                refine s_callV (As := [.int (nI j), .int (nI 1)]) (rest := []) (C := RX3) (T := TX3) (N := 18) (n := 2) F hW (k_X3_pipe g l σj m A _ _ _ _ j 1 twj (by omega) (by omega)) (t0_k3) rfl q2406 q2408 qs44 q79 q2409 rfl (by decide +kernel) rfl ⟨⟨Nat.le_of_ble_eq_true rfl, Nat.le_of_ble_eq_true rfl⟩, ⟨(Nat.le_of_ble_eq_true rfl), (Nat.le_of_ble_eq_true rfl)⟩⟩ (Nat.le_of_ble_eq_true rfl) hl.1 rfl dX3_reaches_42 cX_no (fun r8 σ8 H locs hp8 hW => ?_)
                obtain ⟨rfl, hs8⟩ := hp8
                rw [hs8] at hW
                refine W.eq (g2 := F0 m_ 45 ls (.int (nI (pB (ar 0) j)) :: [])) rfl ?_
                refine lv_istore (lv' := [(5, .int (nI (pB (ar 0) j))), (4, .int (nI (pA (ar 0) j))), (0, .ref m), (1, .int (nI x)), (2, .int (nI i)), (3, .int (nI j))]) F.x F.cd dX3_reaches_45 hl (by decide) rfl (fun ls hl => ?_)
                refine lv_iload_n F.x F.cd dX3_reaches_47 rfl (lv_at hl 3 rfl) ?_
                refine lv_aload_n F.x F.cd dX3_reaches_48 rfl (lv_at hl 2 rfl) ?_
                refine lv_iload_n F.x F.cd dX3_reaches_49 rfl (lv_at hl 5 rfl) ?_
                refine lv_iconst (v := (nI 2)) F.x F.cd dX3_reaches_50 (by decide) ?_
                refine s_callV (As := [.int (nI j), .int (nI 2)]) (rest := [.int (nI x)]) (C := RX3) (T := TX3) (N := 18) (n := 2) F hW (k_X3_pipe g l σj m A _ _ _ _ j 2 twj (by omega) (by omega)) (t0_k3) rfl q2406 q2408 qs44 q79 q2409 rfl (by decide +kernel) rfl ⟨⟨Nat.le_of_ble_eq_true rfl, Nat.le_of_ble_eq_true rfl⟩, ⟨(Nat.le_of_ble_eq_true rfl), (Nat.le_of_ble_eq_true rfl)⟩⟩ (Nat.le_of_ble_eq_true rfl) hl.1 rfl dX3_reaches_51 cX_no (fun r9 σ9 H locs hp9 hW => ?_)
                obtain ⟨rfl, hs9⟩ := hp9
                rw [hs9] at hW
                refine W.eq (g2 := F0 m_ 54 ls (.int (nI (pM (ar 0) j)) :: .int (nI x) :: [])) rfl ?_
                refine lv_iconst (v := (-1 : Int32)) F.x F.cd dX3_reaches_54 (by decide) ?_
                refine a_ixor (v := ((nI (pM (ar 0) j)) ^^^ (-1))) F (rfl) dX3_reaches_55 ?_
                refine a_iand (v := (nI (clr x (pM (ar 0) j)))) F (nI_clr _ (by omega) _ (by omega)) dX3_reaches_56 ?_
                refine lv_istore (lv' := [(6, .int (nI (clr x (pM (ar 0) j)))), (5, .int (nI (pB (ar 0) j))), (4, .int (nI (pA (ar 0) j))), (0, .ref m), (1, .int (nI x)), (2, .int (nI i)), (3, .int (nI j))]) F.x F.cd dX3_reaches_57 hl (by decide) rfl (fun ls hl => ?_)
                refine lv_aload_n F.x F.cd dX3_reaches_59 rfl (lv_at hl 3 rfl) ?_
                refine s_get F hW (ci := 7) (C := RX3) (T := TX3) (N := 18) (v := .ref (A 4)) (t0_k3) rfl in_X3 6 (by decide) q2285 (fun _ h9 => h9) rfl dX3_reaches_60 ?_
                refine lv_sipush (v := (nI 256)) F.x F.cd dX3_reaches_63 (by decide) ?_
                refine lv_iload F.x F.cd dX3_reaches_66 (lv_at hl 2 rfl) ?_
                refine a_imul (v := (nI (256 * (pA (ar 0) j)))) F (pk_mul _ _) dX3_reaches_68 ?_
                refine lv_iload_n F.x F.cd dX3_reaches_69 rfl (lv_at hl 4 rfl) ?_
                refine a_iadd (v := (nI (256 * (pA (ar 0) j) + x))) F (nI_add _ _) dX3_reaches_70 ?_
                refine n_zald (i := 256 * (pA (ar 0) j) + x) (n := 2048) (f := (fun x9 => bI ((rsP (ar 0) x (rsQ (ar 0) x rb i) j) x9))) (x := (bI ((rsP (ar 0) x (rsQ (ar 0) x rb i) j) (256 * (pA (ar 0) j) + x)))) F hW (ta4_k3) (by omega) (by omega) (rfl) dX3_reaches_71 ?_
                refine b_if_eq (b := ((rsP (ar 0) x (rsQ (ar 0) x rb i) j) (256 * (pA (ar 0) j) + x))) (tgt := 90) F dX3_reaches_72 (by decide) (fun c_72 => ?_) (fun c_72 => ?_)
                · refine lv_aload_n F.x F.cd dX3_reaches_90 rfl (lv_at hl 3 rfl) ?_
                  refine s_get F hW (ci := 7) (C := RX3) (T := TX3) (N := 18) (v := .ref (A 4)) (t0_k3) rfl in_X3 6 (by decide) q2285 (fun _ h9 => h9) rfl dX3_reaches_91 ?_
                  refine lv_sipush (v := (nI 256)) F.x F.cd dX3_reaches_94 (by decide) ?_
                  refine lv_iload F.x F.cd dX3_reaches_97 (lv_at hl 1 rfl) ?_
                  refine a_imul (v := (nI (256 * (pB (ar 0) j)))) F (pk_mul _ _) dX3_reaches_99 ?_
                  refine lv_iload_n F.x F.cd dX3_reaches_100 rfl (lv_at hl 4 rfl) ?_
                  refine a_iadd (v := (nI (256 * (pB (ar 0) j) + x))) F (nI_add _ _) dX3_reaches_101 ?_
                  refine n_zald (i := 256 * (pB (ar 0) j) + x) (n := 2048) (f := (fun x9 => bI ((rsP (ar 0) x (rsQ (ar 0) x rb i) j) x9))) (x := (bI ((rsP (ar 0) x (rsQ (ar 0) x rb i) j) (256 * (pB (ar 0) j) + x)))) F hW (ta4_k3) (by omega) (by omega) (rfl) dX3_reaches_102 ?_
                  refine b_if_eq (b := ((rsP (ar 0) x (rsQ (ar 0) x rb i) j) (256 * (pB (ar 0) j) + x))) (tgt := 121) F dX3_reaches_103 (by decide) (fun c_103 => ?_) (fun c_103 => ?_)
                  · have tw_10 : IsTw g σj m A iv wd ar (rsP (ar 0) x (rsQ (ar 0) x rb i) (j + 1)) := by
                      rw [rsP, rs1_ev c_25]
                      first | rw [rsa_t c_72] | rw [rsa_f c_72]
                      first | rw [rsb_t c_103] | rw [rsb_f c_103]
                      exact ⟨t0_k3, tb0, ta0_k3, ta1_k3, ta2_k3, ta3_k3, ta4_k3, ta5_k3, ta6_k3, ta7_k3, tbb, tii⟩
                    obtain ⟨t0_10, -, ta0_10, ta1_10, ta2_10, ta3_10, ta4_10, ta5_10, ta6_10, ta7_10, -, -⟩ := id tw_10
                    refine lv_iinc (k := 6) (v := (nI (j + 1))) (lv' := [(3, .int (nI (j + 1))), (6, .int (nI (clr x (pM (ar 0) j)))), (5, .int (nI (pB (ar 0) j))), (4, .int (nI (pA (ar 0) j))), (0, .ref m), (1, .int (nI x)), (2, .int (nI i))]) F.x F.cd dX3_reaches_121 hl rfl (inc_nI j 1) (by decide) rfl (fun ls hl => ?_)
                    refine lv_goto (tgt := 10) F.x F.cd dX3_reaches_124 (by decide) ?_
                    exact ih10 (j + 1) σj (by omega) (tw_10) (fmj) H locs ls hW (lv_sub hl [4, 5, 6, 0] rfl)
                  · refine lv_aload_n F.x F.cd dX3_reaches_106 rfl (lv_at hl 3 rfl) ?_
                    refine s_get F hW (ci := 7) (C := RX3) (T := TX3) (N := 18) (v := .ref (A 4)) (t0_k3) rfl in_X3 6 (by decide) q2285 (fun _ h9 => h9) rfl dX3_reaches_107 ?_
                    refine lv_sipush (v := (nI 256)) F.x F.cd dX3_reaches_110 (by decide) ?_
                    refine lv_iload F.x F.cd dX3_reaches_113 (lv_at hl 2 rfl) ?_
                    refine a_imul (v := (nI (256 * (pA (ar 0) j)))) F (pk_mul _ _) dX3_reaches_115 ?_
                    refine lv_iload F.x F.cd dX3_reaches_116 (lv_at hl 0 rfl) ?_
                    refine a_iadd (v := (nI (256 * (pA (ar 0) j) + (clr x (pM (ar 0) j))))) F (nI_add _ _) dX3_reaches_118 ?_
                    refine lv_iconst (v := (nI 1)) F.x F.cd dX3_reaches_119 (by decide) ?_
                    refine W.eq (g2 := F0 m_ 120 ls (.int (bI true) :: .int (nI (256 * (pA (ar 0) j) + (clr x (pM (ar 0) j)))) :: .ref (A 4) :: [])) (by rfl) ?_
                    refine n_zastN (i := 256 * (pA (ar 0) j) + (clr x (pM (ar 0) j))) F hW (ta4_k3) (tbb 4 (by decide)) (by omega) (by omega) dX3_reaches_120 (fun H locs hW => ?_)
                    obtain ⟨σ12, hσ12⟩ : ∃ z, z = sset σj (A 4) (eI g 2 2048 (fun x9 => bI ((va_up (rsP (ar 0) x (rsQ (ar 0) x rb i) j) (256 * (pA (ar 0) j) + (clr x (pM (ar 0) j))) true) x9))) := ⟨_, rfl⟩
                    have hW : Hl g σ12 H locs := by rw [hσ12]; exact hW
                    have w12 : σ12 (A 4) = some (eI g 2 2048 (fun x9 => bI ((va_up (rsP (ar 0) x (rsQ (ar 0) x rb i) j) (256 * (pA (ar 0) j) + (clr x (pM (ar 0) j))) true) x9))) := by rw [hσ12]; exact sset_eq
                    have f13 : σ12 m = some (.inr (7, [.ref (A 0), .ref (A 1), .ref (A 2), .int (iv 3), .ref (A 3), .int (iv 5), .ref (A 4), .ref (A 5), .int (iv 8), .ref (A 6), .int (iv 10), .int (iv 11), .ref wd, .ref (A 7), .int (iv 14), .int (iv 15), .int (iv 16), .int (iv 17)])) := by rw [hσ12, sset_ne (sto_ne ta4_k3 t0_k3 (by simp))]; exact t0_k3
                    have f14 : σ12 (A 0) = some (eI g 0 114 (fun x9 => nI ((ar 0) x9))) := by rw [hσ12, sset_ne (fun q9 => absurd (tii 0 4 (by decide) (by decide) q9) (by decide))]; exact ta0_k3
                    have f15 : σ12 (A 1) = some (eI g 0 114 (fun x9 => nI ((ar 1) x9))) := by rw [hσ12, sset_ne (fun q9 => absurd (tii 1 4 (by decide) (by decide) q9) (by decide))]; exact ta1_k3
                    have f16 : σ12 (A 2) = some (eI g 0 912 (fun x9 => nI ((ar 2) x9))) := by rw [hσ12, sset_ne (fun q9 => absurd (tii 2 4 (by decide) (by decide) q9) (by decide))]; exact ta2_k3
                    have f17 : σ12 (A 3) = some (eI g 0 114 (fun x9 => nI ((ar 3) x9))) := by rw [hσ12, sset_ne (fun q9 => absurd (tii 3 4 (by decide) (by decide) q9) (by decide))]; exact ta3_k3
                    have f18 : σ12 (A 5) = some (eI g 3 60 (fun x9 => nI ((ar 5) x9))) := by rw [hσ12, sset_ne (fun q9 => absurd (tii 5 4 (by decide) (by decide) q9) (by decide))]; exact ta5_k3
                    have f19 : σ12 (A 6) = some (eI g 3 60 (fun x9 => nI ((ar 6) x9))) := by rw [hσ12, sset_ne (fun q9 => absurd (tii 6 4 (by decide) (by decide) q9) (by decide))]; exact ta6_k3
                    have f20 : σ12 (A 7) = some (eI g 0 3 (fun x9 => nI ((ar 7) x9))) := by rw [hσ12, sset_ne (fun q9 => absurd (tii 7 4 (by decide) (by decide) q9) (by decide))]; exact ta7_k3
                    have tw21 : IsTw g σ12 m A iv wd ar (va_up (rsP (ar 0) x (rsQ (ar 0) x rb i) j) (256 * (pA (ar 0) j) + (clr x (pM (ar 0) j))) true) := ⟨f13, tb0, f14, f15, f16, f17, w12, f18, f19, f20, tbb, tii⟩
                    have fm21 : Fm σ σ12 m A := by rw [hσ12]; exact (fmj).setA 4 (by decide)
                    have tw_22 : IsTw g σ12 m A iv wd ar (rsP (ar 0) x (rsQ (ar 0) x rb i) (j + 1)) := by
                      rw [rsP, rs1_ev c_25]
                      first | rw [rsa_t c_72] | rw [rsa_f c_72]
                      first | rw [rsb_t c_103] | rw [rsb_f c_103]
                      exact ⟨f13, tb0, f14, f15, f16, f17, w12, f18, f19, f20, tbb, tii⟩
                    obtain ⟨t0_22, -, ta0_22, ta1_22, ta2_22, ta3_22, ta4_22, ta5_22, ta6_22, ta7_22, -, -⟩ := id tw_22
                    refine lv_iinc (k := 6) (v := (nI (j + 1))) (lv' := [(3, .int (nI (j + 1))), (6, .int (nI (clr x (pM (ar 0) j)))), (5, .int (nI (pB (ar 0) j))), (4, .int (nI (pA (ar 0) j))), (0, .ref m), (1, .int (nI x)), (2, .int (nI i))]) F.x F.cd dX3_reaches_121 hl rfl (inc_nI j 1) (by decide) rfl (fun ls hl => ?_)
                    refine lv_goto (tgt := 10) F.x F.cd dX3_reaches_124 (by decide) ?_
                    exact ih10 (j + 1) σ12 (by omega) (tw_22) (fm21) H locs ls hW (lv_sub hl [4, 5, 6, 0] rfl)
                · refine lv_aload_n F.x F.cd dX3_reaches_75 rfl (lv_at hl 3 rfl) ?_
                  refine s_get F hW (ci := 7) (C := RX3) (T := TX3) (N := 18) (v := .ref (A 4)) (t0_k3) rfl in_X3 6 (by decide) q2285 (fun _ h9 => h9) rfl dX3_reaches_76 ?_
                  refine lv_sipush (v := (nI 256)) F.x F.cd dX3_reaches_79 (by decide) ?_
                  refine lv_iload F.x F.cd dX3_reaches_82 (lv_at hl 1 rfl) ?_
                  refine a_imul (v := (nI (256 * (pB (ar 0) j)))) F (pk_mul _ _) dX3_reaches_84 ?_
                  refine lv_iload F.x F.cd dX3_reaches_85 (lv_at hl 0 rfl) ?_
                  refine a_iadd (v := (nI (256 * (pB (ar 0) j) + (clr x (pM (ar 0) j))))) F (nI_add _ _) dX3_reaches_87 ?_
                  refine lv_iconst (v := (nI 1)) F.x F.cd dX3_reaches_88 (by decide) ?_
                  refine W.eq (g2 := F0 m_ 89 ls (.int (bI true) :: .int (nI (256 * (pB (ar 0) j) + (clr x (pM (ar 0) j)))) :: .ref (A 4) :: [])) (by rfl) ?_
                  refine n_zastN (i := 256 * (pB (ar 0) j) + (clr x (pM (ar 0) j))) F hW (ta4_k3) (tbb 4 (by decide)) (by omega) (by omega) dX3_reaches_89 (fun H locs hW => ?_)
                  obtain ⟨σ24, hσ24⟩ : ∃ z, z = sset σj (A 4) (eI g 2 2048 (fun x9 => bI ((va_up (rsP (ar 0) x (rsQ (ar 0) x rb i) j) (256 * (pB (ar 0) j) + (clr x (pM (ar 0) j))) true) x9))) := ⟨_, rfl⟩
                  have hW : Hl g σ24 H locs := by rw [hσ24]; exact hW
                  have w24 : σ24 (A 4) = some (eI g 2 2048 (fun x9 => bI ((va_up (rsP (ar 0) x (rsQ (ar 0) x rb i) j) (256 * (pB (ar 0) j) + (clr x (pM (ar 0) j))) true) x9))) := by rw [hσ24]; exact sset_eq
                  have f25 : σ24 m = some (.inr (7, [.ref (A 0), .ref (A 1), .ref (A 2), .int (iv 3), .ref (A 3), .int (iv 5), .ref (A 4), .ref (A 5), .int (iv 8), .ref (A 6), .int (iv 10), .int (iv 11), .ref wd, .ref (A 7), .int (iv 14), .int (iv 15), .int (iv 16), .int (iv 17)])) := by rw [hσ24, sset_ne (sto_ne ta4_k3 t0_k3 (by simp))]; exact t0_k3
                  have f26 : σ24 (A 0) = some (eI g 0 114 (fun x9 => nI ((ar 0) x9))) := by rw [hσ24, sset_ne (fun q9 => absurd (tii 0 4 (by decide) (by decide) q9) (by decide))]; exact ta0_k3
                  have f27 : σ24 (A 1) = some (eI g 0 114 (fun x9 => nI ((ar 1) x9))) := by rw [hσ24, sset_ne (fun q9 => absurd (tii 1 4 (by decide) (by decide) q9) (by decide))]; exact ta1_k3
                  have f28 : σ24 (A 2) = some (eI g 0 912 (fun x9 => nI ((ar 2) x9))) := by rw [hσ24, sset_ne (fun q9 => absurd (tii 2 4 (by decide) (by decide) q9) (by decide))]; exact ta2_k3
                  have f29 : σ24 (A 3) = some (eI g 0 114 (fun x9 => nI ((ar 3) x9))) := by rw [hσ24, sset_ne (fun q9 => absurd (tii 3 4 (by decide) (by decide) q9) (by decide))]; exact ta3_k3
                  have f30 : σ24 (A 5) = some (eI g 3 60 (fun x9 => nI ((ar 5) x9))) := by rw [hσ24, sset_ne (fun q9 => absurd (tii 5 4 (by decide) (by decide) q9) (by decide))]; exact ta5_k3
                  have f31 : σ24 (A 6) = some (eI g 3 60 (fun x9 => nI ((ar 6) x9))) := by rw [hσ24, sset_ne (fun q9 => absurd (tii 6 4 (by decide) (by decide) q9) (by decide))]; exact ta6_k3
                  have f32 : σ24 (A 7) = some (eI g 0 3 (fun x9 => nI ((ar 7) x9))) := by rw [hσ24, sset_ne (fun q9 => absurd (tii 7 4 (by decide) (by decide) q9) (by decide))]; exact ta7_k3
                  refine lv_aload_n F.x F.cd dX3_reaches_90 rfl (lv_at hl 3 rfl) ?_
                  refine s_get F hW (ci := 7) (C := RX3) (T := TX3) (N := 18) (v := .ref (A 4)) (f25) rfl in_X3 6 (by decide) q2285 (fun _ h9 => h9) rfl dX3_reaches_91 ?_
                  refine lv_sipush (v := (nI 256)) F.x F.cd dX3_reaches_94 (by decide) ?_
                  refine lv_iload F.x F.cd dX3_reaches_97 (lv_at hl 1 rfl) ?_
                  refine a_imul (v := (nI (256 * (pB (ar 0) j)))) F (pk_mul _ _) dX3_reaches_99 ?_
                  refine lv_iload_n F.x F.cd dX3_reaches_100 rfl (lv_at hl 4 rfl) ?_
                  refine a_iadd (v := (nI (256 * (pB (ar 0) j) + x))) F (nI_add _ _) dX3_reaches_101 ?_
                  refine n_zald (i := 256 * (pB (ar 0) j) + x) (n := 2048) (f := (fun x9 => bI ((va_up (rsP (ar 0) x (rsQ (ar 0) x rb i) j) (256 * (pB (ar 0) j) + (clr x (pM (ar 0) j))) true) x9))) (x := (bI ((va_up (rsP (ar 0) x (rsQ (ar 0) x rb i) j) (256 * (pB (ar 0) j) + (clr x (pM (ar 0) j))) true) (256 * (pB (ar 0) j) + x)))) F hW (w24) (by omega) (by omega) (rfl) dX3_reaches_102 ?_
                  refine b_if_eq (b := ((va_up (rsP (ar 0) x (rsQ (ar 0) x rb i) j) (256 * (pB (ar 0) j) + (clr x (pM (ar 0) j))) true) (256 * (pB (ar 0) j) + x))) (tgt := 121) F dX3_reaches_103 (by decide) (fun c_103 => ?_) (fun c_103 => ?_)
                  · have tw33 : IsTw g σ24 m A iv wd ar (va_up (rsP (ar 0) x (rsQ (ar 0) x rb i) j) (256 * (pB (ar 0) j) + (clr x (pM (ar 0) j))) true) := ⟨f25, tb0, f26, f27, f28, f29, w24, f30, f31, f32, tbb, tii⟩
                    have fm33 : Fm σ σ24 m A := by rw [hσ24]; exact (fmj).setA 4 (by decide)
                    have tw_34 : IsTw g σ24 m A iv wd ar (rsP (ar 0) x (rsQ (ar 0) x rb i) (j + 1)) := by
                      rw [rsP, rs1_ev c_25]
                      first | rw [rsa_t c_72] | rw [rsa_f c_72]
                      first | rw [rsb_t c_103] | rw [rsb_f c_103]
                      exact ⟨f25, tb0, f26, f27, f28, f29, w24, f30, f31, f32, tbb, tii⟩
                    obtain ⟨t0_34, -, ta0_34, ta1_34, ta2_34, ta3_34, ta4_34, ta5_34, ta6_34, ta7_34, -, -⟩ := id tw_34
                    refine lv_iinc (k := 6) (v := (nI (j + 1))) (lv' := [(3, .int (nI (j + 1))), (6, .int (nI (clr x (pM (ar 0) j)))), (5, .int (nI (pB (ar 0) j))), (4, .int (nI (pA (ar 0) j))), (0, .ref m), (1, .int (nI x)), (2, .int (nI i))]) F.x F.cd dX3_reaches_121 hl rfl (inc_nI j 1) (by decide) rfl (fun ls hl => ?_)
                    refine lv_goto (tgt := 10) F.x F.cd dX3_reaches_124 (by decide) ?_
                    exact ih10 (j + 1) σ24 (by omega) (tw_34) (fm33) H locs ls hW (lv_sub hl [4, 5, 6, 0] rfl)
                  · refine lv_aload_n F.x F.cd dX3_reaches_106 rfl (lv_at hl 3 rfl) ?_
                    refine s_get F hW (ci := 7) (C := RX3) (T := TX3) (N := 18) (v := .ref (A 4)) (f25) rfl in_X3 6 (by decide) q2285 (fun _ h9 => h9) rfl dX3_reaches_107 ?_
                    refine lv_sipush (v := (nI 256)) F.x F.cd dX3_reaches_110 (by decide) ?_
                    refine lv_iload F.x F.cd dX3_reaches_113 (lv_at hl 2 rfl) ?_
                    refine a_imul (v := (nI (256 * (pA (ar 0) j)))) F (pk_mul _ _) dX3_reaches_115 ?_
                    refine lv_iload F.x F.cd dX3_reaches_116 (lv_at hl 0 rfl) ?_
                    refine a_iadd (v := (nI (256 * (pA (ar 0) j) + (clr x (pM (ar 0) j))))) F (nI_add _ _) dX3_reaches_118 ?_
                    refine lv_iconst (v := (nI 1)) F.x F.cd dX3_reaches_119 (by decide) ?_
                    refine W.eq (g2 := F0 m_ 120 ls (.int (bI true) :: .int (nI (256 * (pA (ar 0) j) + (clr x (pM (ar 0) j)))) :: .ref (A 4) :: [])) (by rfl) ?_
                    refine n_zastN (i := 256 * (pA (ar 0) j) + (clr x (pM (ar 0) j))) F hW (w24) (tbb 4 (by decide)) (by omega) (by omega) dX3_reaches_120 (fun H locs hW => ?_)
                    obtain ⟨σ36, hσ36⟩ : ∃ z, z = sset σ24 (A 4) (eI g 2 2048 (fun x9 => bI ((va_up (va_up (rsP (ar 0) x (rsQ (ar 0) x rb i) j) (256 * (pB (ar 0) j) + (clr x (pM (ar 0) j))) true) (256 * (pA (ar 0) j) + (clr x (pM (ar 0) j))) true) x9))) := ⟨_, rfl⟩
                    have hW : Hl g σ36 H locs := by rw [hσ36]; exact hW
                    have w36 : σ36 (A 4) = some (eI g 2 2048 (fun x9 => bI ((va_up (va_up (rsP (ar 0) x (rsQ (ar 0) x rb i) j) (256 * (pB (ar 0) j) + (clr x (pM (ar 0) j))) true) (256 * (pA (ar 0) j) + (clr x (pM (ar 0) j))) true) x9))) := by rw [hσ36]; exact sset_eq
                    have f37 : σ36 m = some (.inr (7, [.ref (A 0), .ref (A 1), .ref (A 2), .int (iv 3), .ref (A 3), .int (iv 5), .ref (A 4), .ref (A 5), .int (iv 8), .ref (A 6), .int (iv 10), .int (iv 11), .ref wd, .ref (A 7), .int (iv 14), .int (iv 15), .int (iv 16), .int (iv 17)])) := by rw [hσ36, sset_ne (sto_ne w24 f25 (by simp))]; exact f25
                    have f38 : σ36 (A 0) = some (eI g 0 114 (fun x9 => nI ((ar 0) x9))) := by rw [hσ36, sset_ne (fun q9 => absurd (tii 0 4 (by decide) (by decide) q9) (by decide))]; exact f26
                    have f39 : σ36 (A 1) = some (eI g 0 114 (fun x9 => nI ((ar 1) x9))) := by rw [hσ36, sset_ne (fun q9 => absurd (tii 1 4 (by decide) (by decide) q9) (by decide))]; exact f27
                    have f40 : σ36 (A 2) = some (eI g 0 912 (fun x9 => nI ((ar 2) x9))) := by rw [hσ36, sset_ne (fun q9 => absurd (tii 2 4 (by decide) (by decide) q9) (by decide))]; exact f28
                    have f41 : σ36 (A 3) = some (eI g 0 114 (fun x9 => nI ((ar 3) x9))) := by rw [hσ36, sset_ne (fun q9 => absurd (tii 3 4 (by decide) (by decide) q9) (by decide))]; exact f29
                    have f42 : σ36 (A 5) = some (eI g 3 60 (fun x9 => nI ((ar 5) x9))) := by rw [hσ36, sset_ne (fun q9 => absurd (tii 5 4 (by decide) (by decide) q9) (by decide))]; exact f30
                    have f43 : σ36 (A 6) = some (eI g 3 60 (fun x9 => nI ((ar 6) x9))) := by rw [hσ36, sset_ne (fun q9 => absurd (tii 6 4 (by decide) (by decide) q9) (by decide))]; exact f31
                    have f44 : σ36 (A 7) = some (eI g 0 3 (fun x9 => nI ((ar 7) x9))) := by rw [hσ36, sset_ne (fun q9 => absurd (tii 7 4 (by decide) (by decide) q9) (by decide))]; exact f32
                    have tw45 : IsTw g σ36 m A iv wd ar (va_up (va_up (rsP (ar 0) x (rsQ (ar 0) x rb i) j) (256 * (pB (ar 0) j) + (clr x (pM (ar 0) j))) true) (256 * (pA (ar 0) j) + (clr x (pM (ar 0) j))) true) := ⟨f37, tb0, f38, f39, f40, f41, w36, f42, f43, f44, tbb, tii⟩
                    have fm45 : Fm σ σ36 m A := by rw [hσ36, hσ24]; exact ((fmj).setA 4 (by decide)).setA 4 (by decide)
                    have tw_46 : IsTw g σ36 m A iv wd ar (rsP (ar 0) x (rsQ (ar 0) x rb i) (j + 1)) := by
                      rw [rsP, rs1_ev c_25]
                      first | rw [rsa_t c_72] | rw [rsa_f c_72]
                      first | rw [rsb_t c_103] | rw [rsb_f c_103]
                      exact ⟨f37, tb0, f38, f39, f40, f41, w36, f42, f43, f44, tbb, tii⟩
                    obtain ⟨t0_46, -, ta0_46, ta1_46, ta2_46, ta3_46, ta4_46, ta5_46, ta6_46, ta7_46, -, -⟩ := id tw_46
                    refine lv_iinc (k := 6) (v := (nI (j + 1))) (lv' := [(3, .int (nI (j + 1))), (6, .int (nI (clr x (pM (ar 0) j)))), (5, .int (nI (pB (ar 0) j))), (4, .int (nI (pA (ar 0) j))), (0, .ref m), (1, .int (nI x)), (2, .int (nI i))]) F.x F.cd dX3_reaches_121 hl rfl (inc_nI j 1) (by decide) rfl (fun ls hl => ?_)
                    refine lv_goto (tgt := 10) F.x F.cd dX3_reaches_124 (by decide) ?_
                    exact ih10 (j + 1) σ36 (by omega) (tw_46) (fm45) H locs ls hW (lv_sub hl [4, 5, 6, 0] rfl)
              · refine lv_goto (tgt := 121) F.x F.cd dX3_reaches_28 (by decide) ?_
                have tw_48 : IsTw g σj m A iv wd ar (rsP (ar 0) x (rsQ (ar 0) x rb i) (j + 1)) := by
                  rw [rsP, rs1, if_neg (by rw [c_25]; decide)]
                  exact ⟨t0_k3, tb0, ta0_k3, ta1_k3, ta2_k3, ta3_k3, ta4_k3, ta5_k3, ta6_k3, ta7_k3, tbb, tii⟩
                obtain ⟨t0_48, -, ta0_48, ta1_48, ta2_48, ta3_48, ta4_48, ta5_48, ta6_48, ta7_48, -, -⟩ := id tw_48
                refine lv_iinc (k := 3) (v := (nI (j + 1))) (lv' := [(3, .int (nI (j + 1))), (0, .ref m), (1, .int (nI x)), (2, .int (nI i))]) F.x F.cd dX3_reaches_121 hl rfl (inc_nI j 1) (by decide) rfl (fun ls hl => ?_)
                refine lv_goto (tgt := 10) F.x F.cd dX3_reaches_124 (by decide) ?_
                exact ih10 (j + 1) σj (by omega) (tw_48) (fmj) H locs ls hW (lv_sub hl [1, 2, 3, 0] rfl)
        exact loop10 (ar 0 1) 0 _  (by omega) (twi) (fmi) H locs ls hW (lv_sub hl [1, 2, 3, 0] rfl)
  exact loop2 (8) 0 _  (by omega) (hw) (Fm.refl) H locs ls hW (lv_sub hl [1, 2, 0] rfl)
set_option maxHeartbeats 4000000 in
theorem k_X3_cleanest (g : Gh) (l : Launch) (σ : Sto) (m : Nat) (A : Nat → Nat) (iv : Nat → Int32) (wd : Nat) (ar : Nat → Nat → Nat) (rb : Nat → Bool) (a b : Int32) (hw : IsTw g σ m A iv wd ar rb) (hI : Inv (ar 0)) : Ct g l yX3_cleanest cX3_cleanest 5 (some .int) ({ frames := 4, cells := 0, slots := 0, locals := 93 } : Room) [.ref m, .int a, .int b] σ (fun r σ' => (∃ i j, i < ar 0 0 ∧ j < ar 0 0 ∧ a = nI i ∧ b = nI j ∧ conB (ar 0) 1 (-1) i j = true ∧ r = some (.int (nI (clM (ar 0) i j))) ∧ (∃ rb', IsTw g σ' m A (va_up iv 17 (nI 0)) wd ar rb') ∧ Fm σ σ' m A) ∨ (∃ i j, i < ar 0 0 ∧ j < ar 0 0 ∧ a = nI i ∧ b = nI j ∧ conB (ar 0) 1 (-1) i j = false ∧ r = some (.int (nI 0)) ∧ IsTw g σ' m A (va_up iv 17 (nI 2)) wd ar rb ∧ Fm σ σ' m A) ∨ ((inN a (ar 0 0) && inN b (ar 0 0)) = false ∧ r = some (.int (nI 0)) ∧ IsTw g σ' m A (va_up iv 17 (nI 1)) wd ar rb ∧ Fm σ σ' m A)) (nox) := by
  refine Ct.body (by decide) (Nat.le_of_ble_eq_true rfl) ?_
  intro p_ e_ s_ m_ args_ below_ meth_ c_ ls H locs Q F hW hl hQ
  have hl : lv_has ls 5 [(0, .ref m), (1, .int a), (2, .int b)] := hl
  obtain ⟨t0, tb0, ta0, ta1, ta2, ta3, ta4, ta5, ta6, ta7, tbb, tii⟩ := id hw
  have hv0 := hI.1
  have hv1 := hI.2.1
  refine lv_aload_n F.x F.cd dX3_cleanest_0 rfl (lv_at hl 0 rfl) ?_
  refine lv_iload_n F.x F.cd dX3_cleanest_1 rfl (lv_at hl 1 rfl) ?_
  refine lv_iload_n F.x F.cd dX3_cleanest_2 rfl (lv_at hl 2 rfl) ?_
  refine s_callV (As := [.int a, .int b]) (rest := []) (C := RX3) (T := TX3) (N := 18) (n := 2) F hW (k_X3_areTanks g l σ m A _ _ _ _ a b hw hI) (t0) rfl q2542 q2544 qs52 q79 q2545 rfl (by decide +kernel) rfl ⟨⟨Nat.le_of_ble_eq_true rfl, Nat.le_of_ble_eq_true rfl⟩, ⟨(Nat.le_of_ble_eq_true rfl), (Nat.le_of_ble_eq_true rfl)⟩⟩ (Nat.le_of_ble_eq_true rfl) hl.1 rfl dX3_cleanest_3 cX_no (fun r1 σ1 H locs hp1 hW => ?_)
  rcases hp1 with ⟨i1, j1, hi1, hj1, rfl, rfl, rfl, tv1, fv1⟩ | ⟨hz1, rfl, tv1, fv1⟩
  · have hi1 : i1 < (ar 0) 0 := hi1
    have hj1 : j1 < (ar 0) 0 := hj1
    refine W.eq (g2 := F0 m_ 6 ls (.int (bI true) :: [])) rfl ?_
    obtain ⟨t0_2, -, ta0_2, ta1_2, ta2_2, ta3_2, ta4_2, ta5_2, ta6_2, ta7_2, -, -⟩ := id tv1
    have fm_2 : Fm σ σ1 m A := (Fm.refl).trans fv1
    have tw_2 : IsTw g σ1 m A (va_up iv 17 (nI 0)) wd ar rb := ⟨t0_2, tb0, ta0_2, ta1_2, ta2_2, ta3_2, ta4_2, ta5_2, ta6_2, ta7_2, tbb, tii⟩
    refine b_if_ne (b := true) (tgt := 11) F dX3_cleanest_6 (by decide) (fun c_6 => ?_) (fun c_6 => ?_)
    · refine lv_aload_n F.x F.cd dX3_cleanest_11 rfl (lv_at hl 0 rfl) ?_
      refine lv_iload_n F.x F.cd dX3_cleanest_12 rfl (lv_at hl 1 rfl) ?_
      refine lv_iload_n F.x F.cd dX3_cleanest_13 rfl (lv_at hl 2 rfl) ?_
      refine lv_iconst (v := (nI 1)) F.x F.cd dX3_cleanest_14 (by decide) ?_
      refine s_callV (As := [.int (nI i1), .int (nI j1), .int (nI 1)]) (rest := []) (C := RX3) (T := TX3) (N := 18) (n := 3) F hW (k_X3_joins g l σ1 m A _ _ _ _ i1 j1 1 tw_2 hI (by omega) (by omega) (by omega)) (t0_2) rfl q2546 q2548 qs53 q79 q2549 rfl (by decide +kernel) rfl ⟨⟨Nat.le_of_ble_eq_true rfl, Nat.le_of_ble_eq_true rfl⟩, ⟨(Nat.le_of_ble_eq_true rfl), (Nat.le_of_ble_eq_true rfl)⟩⟩ (Nat.le_of_ble_eq_true rfl) hl.1 rfl dX3_cleanest_15 cX_no (fun r3 σ3 H locs hp3 hW => ?_)
      obtain ⟨rfl, hs3⟩ := hp3
      rw [hs3] at hW
      refine W.eq (g2 := F0 m_ 18 ls (.int (bI (conB (ar 0) 1 (-1) i1 j1)) :: [])) rfl ?_
      refine b_if_ne (b := (conB (ar 0) 1 (-1) i1 j1)) (tgt := 27) F dX3_cleanest_18 (by decide) (fun c_18 => ?_) (fun c_18 => ?_)
      · have hti := hI.tk hi1
        refine lv_iconst (v := (nI 0)) F.x F.cd dX3_cleanest_27 (by decide) ?_
        refine lv_istore_n (lv' := [(3, .int (nI 0)), (0, .ref m), (1, .int (nI i1)), (2, .int (nI j1))]) F.x F.cd dX3_cleanest_28 rfl hl (by decide) rfl (fun ls hl => ?_)
        have loop29 : ∀ (nk : Nat) (k : Nat) (σk : Sto), k + nk = 2048 → IsTw g σk m A (va_up iv 17 (nI 0)) wd ar (fsT rb k) → Fm σ σk m A → ∀ (H : Heap) (locs : List Loc) (ls : Array Slot), Hl g σk H locs → lv_has ls 5 [(0, .ref m), (1, .int (nI i1)), (2, .int (nI j1)), (3, .int (nI k))] → W p_ l e_ ({ frames := 4, cells := 0, slots := 0, locals := 93 } : Room) s_ m_ args_ below_ meth_ c_ H locs 0 0 Q (F0 m_ 29 ls ([])) := by
          intro nk
          induction nk with
          | zero =>
            intro k σk hknk twk fmk H locs ls hW hl
            obtain ⟨t0_k4, -, ta0_k4, ta1_k4, ta2_k4, ta3_k4, ta4_k4, ta5_k4, ta6_k4, ta7_k4, -, -⟩ := id twk
            refine lv_iload_n F.x F.cd dX3_cleanest_29 rfl (lv_at hl 3 rfl) ?_
            refine lv_sipush (v := (nI 2048)) F.x F.cd dX3_cleanest_30 (by decide) ?_
            refine n_icmp_ge (a := k) (b := 2048) (tgt := 49) F (by omega) (by omega) dX3_cleanest_33 (by decide) (fun c_33 => ?_) (fun c_33 => ?_)
            · obtain ⟨σ5, hW, tv5, fv5⟩ := IsTw.norm4 twk hW (fun _ => false) (fun j hj => if_pos (show j < k by omega))
              obtain ⟨t0_6, -, ta0_6, ta1_6, ta2_6, ta3_6, ta4_6, ta5_6, ta6_6, ta7_6, -, -⟩ := id tv5
              have fm_6 : Fm σ σ5 m A := (fmk).trans fv5
              have tw_6 : IsTw g σ5 m A (va_up iv 17 (nI 0)) wd ar (fun _ => false) := ⟨t0_6, tb0, ta0_6, ta1_6, ta2_6, ta3_6, ta4_6, ta5_6, ta6_6, ta7_6, tbb, tii⟩
              refine lv_aload_n F.x F.cd dX3_cleanest_49 rfl (lv_at hl 0 rfl) ?_
              refine s_get F hW (ci := 7) (C := RX3) (T := TX3) (N := 18) (v := .ref (A 4)) (t0_6) rfl in_X3 6 (by decide) q2285 (fun _ h9 => h9) rfl dX3_cleanest_50 ?_
              refine lv_sipush (v := (nI 256)) F.x F.cd dX3_cleanest_53 (by decide) ?_
              refine lv_iload_n F.x F.cd dX3_cleanest_56 rfl (lv_at hl 1 rfl) ?_
              refine a_imul (v := (nI (256 * i1))) F (pk_mul _ _) dX3_cleanest_57 ?_
              refine lv_aload_n F.x F.cd dX3_cleanest_58 rfl (lv_at hl 0 rfl) ?_
              refine lv_iload_n F.x F.cd dX3_cleanest_59 rfl (lv_at hl 1 rfl) ?_
              refine lv_iconst (v := (nI 2)) F.x F.cd dX3_cleanest_60 (by decide) ?_
              refine s_callV (As := [.int (nI i1), .int (nI 2)]) (rest := [.int (nI (256 * i1)), .ref (A 4)]) (C := RX3) (T := TX3) (N := 18) (n := 2) F hW (k_X3_tank g l σ5 m A _ _ _ _ i1 2 tw_6 (by omega) (by omega)) (t0_6) rfl q2438 q2440 qs49 q79 q2441 rfl (by decide +kernel) rfl ⟨⟨Nat.le_of_ble_eq_true rfl, Nat.le_of_ble_eq_true rfl⟩, ⟨(Nat.le_of_ble_eq_true rfl), (Nat.le_of_ble_eq_true rfl)⟩⟩ (Nat.le_of_ble_eq_true rfl) hl.1 rfl dX3_cleanest_61 cX_no (fun r7 σ7 H locs hp7 hW => ?_)
              obtain ⟨rfl, hs7⟩ := hp7
              rw [hs7] at hW
              refine W.eq (g2 := F0 m_ 64 ls (.int (nI (tI (ar 0) i1)) :: .int (nI (256 * i1)) :: .ref (A 4) :: [])) rfl ?_
              refine a_iadd (v := (nI (256 * i1 + (tI (ar 0) i1)))) F (nI_add _ _) dX3_cleanest_64 ?_
              refine lv_iconst (v := (nI 1)) F.x F.cd dX3_cleanest_65 (by decide) ?_
              refine W.eq (g2 := F0 m_ 66 ls (.int (bI true) :: .int (nI (256 * i1 + (tI (ar 0) i1))) :: .ref (A 4) :: [])) (by rfl) ?_
              refine n_zastN (i := 256 * i1 + (tI (ar 0) i1)) F hW (ta4_6) (tbb 4 (by decide)) (by omega) (by omega) dX3_cleanest_66 (fun H locs hW => ?_)
              obtain ⟨σ8, hσ8⟩ : ∃ z, z = sset σ5 (A 4) (eI g 2 2048 (fun x9 => bI ((va_up (fun _ => false) (256 * i1 + (tI (ar 0) i1)) true) x9))) := ⟨_, rfl⟩
              have hW : Hl g σ8 H locs := by rw [hσ8]; exact hW
              have w8 : σ8 (A 4) = some (eI g 2 2048 (fun x9 => bI ((va_up (fun _ => false) (256 * i1 + (tI (ar 0) i1)) true) x9))) := by rw [hσ8]; exact sset_eq
              have f9 : σ8 m = some (.inr (7, [.ref (A 0), .ref (A 1), .ref (A 2), .int (iv 3), .ref (A 3), .int (iv 5), .ref (A 4), .ref (A 5), .int (iv 8), .ref (A 6), .int (iv 10), .int (iv 11), .ref wd, .ref (A 7), .int (iv 14), .int (iv 15), .int (iv 16), .int (nI 0)])) := by rw [hσ8, sset_ne (sto_ne ta4_6 t0_6 (by simp))]; exact t0_6
              have f10 : σ8 (A 0) = some (eI g 0 114 (fun x9 => nI ((ar 0) x9))) := by rw [hσ8, sset_ne (fun q9 => absurd (tii 0 4 (by decide) (by decide) q9) (by decide))]; exact ta0_6
              have f11 : σ8 (A 1) = some (eI g 0 114 (fun x9 => nI ((ar 1) x9))) := by rw [hσ8, sset_ne (fun q9 => absurd (tii 1 4 (by decide) (by decide) q9) (by decide))]; exact ta1_6
              have f12 : σ8 (A 2) = some (eI g 0 912 (fun x9 => nI ((ar 2) x9))) := by rw [hσ8, sset_ne (fun q9 => absurd (tii 2 4 (by decide) (by decide) q9) (by decide))]; exact ta2_6
              have f13 : σ8 (A 3) = some (eI g 0 114 (fun x9 => nI ((ar 3) x9))) := by rw [hσ8, sset_ne (fun q9 => absurd (tii 3 4 (by decide) (by decide) q9) (by decide))]; exact ta3_6
              have f14 : σ8 (A 5) = some (eI g 3 60 (fun x9 => nI ((ar 5) x9))) := by rw [hσ8, sset_ne (fun q9 => absurd (tii 5 4 (by decide) (by decide) q9) (by decide))]; exact ta5_6
              have f15 : σ8 (A 6) = some (eI g 3 60 (fun x9 => nI ((ar 6) x9))) := by rw [hσ8, sset_ne (fun q9 => absurd (tii 6 4 (by decide) (by decide) q9) (by decide))]; exact ta6_6
              have f16 : σ8 (A 7) = some (eI g 0 3 (fun x9 => nI ((ar 7) x9))) := by rw [hσ8, sset_ne (fun q9 => absurd (tii 7 4 (by decide) (by decide) q9) (by decide))]; exact ta7_6
              have tw17 : IsTw g σ8 m A (va_up iv 17 (nI 0)) wd ar (va_up (fun _ => false) (256 * i1 + (tI (ar 0) i1)) true) := ⟨f9, tb0, f10, f11, f12, f13, w8, f14, f15, f16, tbb, tii⟩
              have fm17 : Fm σ σ8 m A := by rw [hσ8]; exact (fm_6).setA 4 (by decide)
              have tw_18 : IsTw g σ8 m A (va_up iv 17 (nI 0)) wd ar (rs0 (ar 0) i1) := by
                rw [rs0]
                exact ⟨f9, tb0, f10, f11, f12, f13, w8, f14, f15, f16, tbb, tii⟩
              obtain ⟨t0_18, -, ta0_18, ta1_18, ta2_18, ta3_18, ta4_18, ta5_18, ta6_18, ta7_18, -, -⟩ := id tw_18
              refine lv_aload_n F.x F.cd dX3_cleanest_67 rfl (lv_at hl 0 rfl) ?_
              refine lv_iload_n F.x F.cd dX3_cleanest_68 rfl (lv_at hl 1 rfl) ?_
              refine lv_iconst (v := (nI 2)) F.x F.cd dX3_cleanest_69 (by decide) ?_
              refine s_callV (As := [.int (nI i1), .int (nI 2)]) (rest := []) (C := RX3) (T := TX3) (N := 18) (n := 2) F hW (k_X3_tank g l σ8 m A _ _ _ _ i1 2 tw_18 (by omega) (by omega)) (t0_18) rfl q2438 q2440 qs49 q79 q2441 rfl (by decide +kernel) rfl ⟨⟨Nat.le_of_ble_eq_true rfl, Nat.le_of_ble_eq_true rfl⟩, ⟨(Nat.le_of_ble_eq_true rfl), (Nat.le_of_ble_eq_true rfl)⟩⟩ (Nat.le_of_ble_eq_true rfl) hl.1 rfl dX3_cleanest_70 cX_no (fun r19 σ19 H locs hp19 hW => ?_)
              obtain ⟨rfl, hs19⟩ := hp19
              rw [hs19] at hW
              refine W.eq (g2 := F0 m_ 73 ls (.int (nI (tI (ar 0) i1)) :: [])) rfl ?_
              refine lv_istore_n (lv' := [(3, .int (nI (tI (ar 0) i1))), (0, .ref m), (1, .int (nI i1)), (2, .int (nI j1))]) F.x F.cd dX3_cleanest_73 rfl hl (by decide) rfl (fun ls hl => ?_)
              have loop74 : ∀ (nq : Nat) (q : Nat) (σq : Sto) , q + nq = (tI (ar 0) i1) + 1 → IsTw g σq m A (va_up iv 17 (nI 0)) wd ar (rsD (ar 0) (tI (ar 0) i1) (rs0 (ar 0) i1) q) → Fm σ σq m A → ∀ (H : Heap) (locs : List Loc) (ls : Array Slot), Hl g σq H locs → lv_has ls 5 [(0, .ref m), (1, .int (nI i1)), (2, .int (nI j1)), (3, .int (dn (tI (ar 0) i1) q))] → W p_ l e_ ({ frames := 4, cells := 0, slots := 0, locals := 93 } : Room) s_ m_ args_ below_ meth_ c_ H locs 0 0 Q (F0 m_ 74 ls ([])) := by
                intro nq
                induction nq with
                | zero =>
                  intro q σq  hknq twq fmq H locs ls hW hl
                  obtain ⟨t0_k20, -, ta0_k20, ta1_k20, ta2_k20, ta3_k20, ta4_k20, ta5_k20, ta6_k20, ta7_k20, -, -⟩ := id twq
                  refine lv_iload_n F.x F.cd dX3_cleanest_74 rfl (lv_at hl 3 rfl) ?_
                  refine lv_if_lt (x := (dn (tI (ar 0) i1) q)) (tgt := 89) F.x F.cd dX3_cleanest_75 (by decide) (fun c_75 => ?_) (fun c_75 => ?_)
                  · have tw_21 : IsTw g σq m A (va_up iv 17 (nI 0)) wd ar (rsD (ar 0) (tI (ar 0) i1) (rs0 (ar 0) i1) ((tI (ar 0) i1) + 1)) := by
                      have e9 : q = (tI (ar 0) i1) + 1 := by omega
                      subst e9
                      exact ⟨t0_k20, tb0, ta0_k20, ta1_k20, ta2_k20, ta3_k20, ta4_k20, ta5_k20, ta6_k20, ta7_k20, tbb, tii⟩
                    obtain ⟨t0_21, -, ta0_21, ta1_21, ta2_21, ta3_21, ta4_21, ta5_21, ta6_21, ta7_21, -, -⟩ := id tw_21
                    refine lv_bipush (v := (nI 8)) F.x F.cd dX3_cleanest_89 (by decide) ?_
                    refine lv_istore_n (lv' := [(3, .int (nI 8)), (0, .ref m), (1, .int (nI i1)), (2, .int (nI j1))]) F.x F.cd dX3_cleanest_91 rfl hl (by decide) rfl (fun ls hl => ?_)
                    refine lv_iconst (v := (nI 0)) F.x F.cd dX3_cleanest_92 (by decide) ?_
                    refine lv_istore (lv' := [(4, .int (nI 0)), (3, .int (nI 8)), (0, .ref m), (1, .int (nI i1)), (2, .int (nI j1))]) F.x F.cd dX3_cleanest_93 hl (by decide) rfl (fun ls hl => ?_)
                    have loop95 : ∀ (z : Nat) (w : Nat), w + z = 256 → ∀ (H : Heap) (locs : List Loc) (ls : Array Slot), Hl g σq H locs → lv_has ls 5 [(0, .ref m), (1, .int (nI i1)), (2, .int (nI j1)), (3, .int (nI (lst (fun x => (rsD (ar 0) (tI (ar 0) i1) (rs0 (ar 0) i1) ((tI (ar 0) i1) + 1)) (256 * j1 + x)) w))), (4, .int (nI w))] → W p_ l e_ ({ frames := 4, cells := 0, slots := 0, locals := 93 } : Room) s_ m_ args_ below_ meth_ c_ H locs 0 0 Q (F0 m_ 95 ls ([])) := by
                      intro z
                      induction z with
                      | zero =>
                        intro w hkz  H locs ls hW hl
                        have hl8 := (lst_le (P := (fun x => (rsD (ar 0) (tI (ar 0) i1) (rs0 (ar 0) i1) ((tI (ar 0) i1) + 1)) (256 * j1 + x))) w).1
                        refine lv_iload F.x F.cd dX3_cleanest_95 (lv_at hl 4 rfl) ?_
                        refine lv_sipush (v := (nI 256)) F.x F.cd dX3_cleanest_97 (by decide) ?_
                        refine n_icmp_ge (a := w) (b := 256) (tgt := 135) F (by omega) (by omega) dX3_cleanest_100 (by decide) (fun c_100 => ?_) (fun c_100 => ?_)
                        · refine lv_iload_n F.x F.cd dX3_cleanest_135 rfl (lv_at hl 3 rfl) ?_
                          subst hQ
                          exact s_reti (v := (nI (lst (fun x => (rsD (ar 0) (tI (ar 0) i1) (rs0 (ar 0) i1) ((tI (ar 0) i1) + 1)) (256 * j1 + x)) w))) F hW rfl (Or.inl ⟨i1, j1, hi1, hj1, rfl, rfl, c_18, by rw [show w = 256 by omega]; rfl, ⟨_, tw_21⟩, fmq⟩) ⟨(Nat.le_of_ble_eq_true rfl), (Nat.le_of_ble_eq_true rfl)⟩ dX3_cleanest_136
                        · exact absurd c_100 (by omega)
                      | succ z ih95 =>
                        intro w hkz  H locs ls hW hl
                        have hl8 := (lst_le (P := (fun x => (rsD (ar 0) (tI (ar 0) i1) (rs0 (ar 0) i1) ((tI (ar 0) i1) + 1)) (256 * j1 + x))) w).1
                        refine lv_iload F.x F.cd dX3_cleanest_95 (lv_at hl 4 rfl) ?_
                        refine lv_sipush (v := (nI 256)) F.x F.cd dX3_cleanest_97 (by decide) ?_
                        refine n_icmp_ge (a := w) (b := 256) (tgt := 135) F (by omega) (by omega) dX3_cleanest_100 (by decide) (fun c_100 => ?_) (fun c_100 => ?_)
                        · exact absurd c_100 (by omega)
                        · refine lv_aload_n F.x F.cd dX3_cleanest_103 rfl (lv_at hl 0 rfl) ?_
                          refine s_get F hW (ci := 7) (C := RX3) (T := TX3) (N := 18) (v := .ref (A 4)) (t0_21) rfl in_X3 6 (by decide) q2285 (fun _ h9 => h9) rfl dX3_cleanest_104 ?_
                          refine lv_sipush (v := (nI 256)) F.x F.cd dX3_cleanest_107 (by decide) ?_
                          refine lv_iload_n F.x F.cd dX3_cleanest_110 rfl (lv_at hl 2 rfl) ?_
                          refine a_imul (v := (nI (256 * j1))) F (pk_mul _ _) dX3_cleanest_111 ?_
                          refine lv_iload F.x F.cd dX3_cleanest_112 (lv_at hl 4 rfl) ?_
                          refine a_iadd (v := (nI (256 * j1 + w))) F (nI_add _ _) dX3_cleanest_114 ?_
                          refine n_zald (i := 256 * j1 + w) (n := 2048) (f := (fun x9 => bI ((rsD (ar 0) (tI (ar 0) i1) (rs0 (ar 0) i1) ((tI (ar 0) i1) + 1)) x9))) (x := (bI ((rsD (ar 0) (tI (ar 0) i1) (rs0 (ar 0) i1) ((tI (ar 0) i1) + 1)) (256 * j1 + w)))) F hW (ta4_21) (by omega) (by omega) (rfl) dX3_cleanest_115 ?_
                          refine b_if_eq (b := ((rsD (ar 0) (tI (ar 0) i1) (rs0 (ar 0) i1) ((tI (ar 0) i1) + 1)) (256 * j1 + w))) (tgt := 129) F dX3_cleanest_116 (by decide) (fun c_116 => ?_) (fun c_116 => ?_)
                          · have hl : lv_has ls 5 [(0, .ref m), (1, .int (nI i1)), (2, .int (nI j1)), (3, .int (nI (lst (fun x => (rsD (ar 0) (tI (ar 0) i1) (rs0 (ar 0) i1) ((tI (ar 0) i1) + 1)) (256 * j1 + x)) (w + 1)))), (4, .int (nI w))] := by rw [show lst (fun x => (rsD (ar 0) (tI (ar 0) i1) (rs0 (ar 0) i1) ((tI (ar 0) i1) + 1)) (256 * j1 + x)) (w + 1) = lst (fun x => (rsD (ar 0) (tI (ar 0) i1) (rs0 (ar 0) i1) ((tI (ar 0) i1) + 1)) (256 * j1 + x)) w by rw [lst, if_neg (by rw [c_116]; decide)]]; exact hl
                            refine lv_iinc (k := 4) (v := (nI (w + 1))) (lv' := [(4, .int (nI (w + 1))), (0, .ref m), (1, .int (nI i1)), (2, .int (nI j1)), (3, .int (nI (lst (fun x => (rsD (ar 0) (tI (ar 0) i1) (rs0 (ar 0) i1) ((tI (ar 0) i1) + 1)) (256 * j1 + x)) (w + 1))))]) F.x F.cd dX3_cleanest_129 hl rfl (inc_nI w 1) (by decide) rfl (fun ls hl => ?_)
                            refine lv_goto (tgt := 95) F.x F.cd dX3_cleanest_132 (by decide) ?_
                            exact ih95 (w + 1) (by omega)  H locs ls hW (lv_sub hl [1, 2, 3, 4, 0] rfl)
                          · have hp8 := pops_lt w (by omega)
                            refine lv_iload_n F.x F.cd dX3_cleanest_119 rfl (lv_at hl 3 rfl) ?_
                            refine lv_iload F.x F.cd dX3_cleanest_120 (lv_at hl 4 rfl) ?_
                            refine s_callS (As := [.int (nI w)]) (rest := [.int (nI (lst (fun x => (rsD (ar 0) (tI (ar 0) i1) (rs0 (ar 0) i1) ((tI (ar 0) i1) + 1)) (256 * j1 + x)) w))]) (n := 1) F hW (k_J19_bitCount g l σq (nI w)) q2446 q2447 q92 q2448 (by decide +kernel) rfl ⟨⟨Nat.le_of_ble_eq_true rfl, Nat.le_of_ble_eq_true rfl⟩, ⟨(Nat.le_of_ble_eq_true rfl), (Nat.le_of_ble_eq_true rfl)⟩⟩ (Nat.le_of_ble_eq_true rfl) hl.1 rfl dX3_cleanest_122 cX_no (fun r22 σ22 H locs hp22 hW => ?_)
                            obtain ⟨rfl, hs22⟩ := hp22
                            rw [hs22] at hW
                            refine W.eq (g2 := F0 m_ 125 ls (.int (nI (pops w)) :: .int (nI (lst (fun x => (rsD (ar 0) (tI (ar 0) i1) (rs0 (ar 0) i1) ((tI (ar 0) i1) + 1)) (256 * j1 + x)) w)) :: [])) (by rw [bcI_nI _ (by omega)] <;> rfl) ?_
                            refine s_mmin (v := (nI (min (lst (fun x => (rsD (ar 0) (tI (ar 0) i1) (rs0 (ar 0) i1) ((tI (ar 0) i1) + 1)) (256 * j1 + x)) w) (pops w)))) F q2445 q453 q87 q454 hl.1 (Nat.le_of_ble_eq_true rfl) (Nat.le_of_ble_eq_true rfl) (Nat.le_of_ble_eq_true rfl) (Nat.le_of_ble_eq_true rfl) (nI_min (by omega) (by omega)) dX3_cleanest_125 ?_
                            refine lv_istore_n (lv' := [(3, .int (nI (min (lst (fun x => (rsD (ar 0) (tI (ar 0) i1) (rs0 (ar 0) i1) ((tI (ar 0) i1) + 1)) (256 * j1 + x)) w) (pops w)))), (0, .ref m), (1, .int (nI i1)), (2, .int (nI j1)), (4, .int (nI w))]) F.x F.cd dX3_cleanest_128 rfl hl (by decide) rfl (fun ls hl => ?_)
                            have hl : lv_has ls 5 [(3, .int (nI (lst (fun x => (rsD (ar 0) (tI (ar 0) i1) (rs0 (ar 0) i1) ((tI (ar 0) i1) + 1)) (256 * j1 + x)) (w + 1)))), (0, .ref m), (1, .int (nI i1)), (2, .int (nI j1)), (4, .int (nI w))] := by rw [show lst (fun x => (rsD (ar 0) (tI (ar 0) i1) (rs0 (ar 0) i1) ((tI (ar 0) i1) + 1)) (256 * j1 + x)) (w + 1) = min (lst (fun x => (rsD (ar 0) (tI (ar 0) i1) (rs0 (ar 0) i1) ((tI (ar 0) i1) + 1)) (256 * j1 + x)) w) (pops w) by rw [lst, if_pos c_116]]; exact hl
                            refine lv_iinc (k := 4) (v := (nI (w + 1))) (lv' := [(4, .int (nI (w + 1))), (3, .int (nI (lst (fun x => (rsD (ar 0) (tI (ar 0) i1) (rs0 (ar 0) i1) ((tI (ar 0) i1) + 1)) (256 * j1 + x)) (w + 1)))), (0, .ref m), (1, .int (nI i1)), (2, .int (nI j1))]) F.x F.cd dX3_cleanest_129 hl rfl (inc_nI w 1) (by decide) rfl (fun ls hl => ?_)
                            refine lv_goto (tgt := 95) F.x F.cd dX3_cleanest_132 (by decide) ?_
                            exact ih95 (w + 1) (by omega)  H locs ls hW (lv_sub hl [2, 3, 4, 1, 0] rfl)
                    exact loop95 (256) 0 (by omega)  H locs ls hW (lv_sub hl [2, 3, 4, 1, 0] rfl)
                  · exact absurd (by rw [show dn (tI (ar 0) i1) q = -1 from if_neg (by omega)]; decide) c_75
                | succ nq ih74 =>
                  intro q σq  hknq twq fmq H locs ls hW hl
                  obtain ⟨t0_k20, -, ta0_k20, ta1_k20, ta2_k20, ta3_k20, ta4_k20, ta5_k20, ta6_k20, ta7_k20, -, -⟩ := id twq
                  have hl : lv_has ls 5 [(0, .ref m), (1, .int (nI i1)), (2, .int (nI j1)), (3, .int (nI ((tI (ar 0) i1) - q)))] := by rw [← show dn (tI (ar 0) i1) q = nI ((tI (ar 0) i1) - q) from if_pos (by omega)]; exact hl
                  refine lv_iload_n F.x F.cd dX3_cleanest_74 rfl (lv_at hl 3 rfl) ?_
                  refine n_if_lt (a := (tI (ar 0) i1) - q) (tgt := 89) F (by omega) dX3_cleanest_75 (by decide) ?_
                  refine lv_aload_n F.x F.cd dX3_cleanest_78 rfl (lv_at hl 0 rfl) ?_
                  refine lv_iload_n F.x F.cd dX3_cleanest_79 rfl (lv_at hl 3 rfl) ?_
                  refine s_callV (As := [.int (nI ((tI (ar 0) i1) - q))]) (rest := []) (C := RX3) (T := TX3) (N := 18) (n := 1) F hW (k_X3_reaches g l σq m A _ _ _ _ ((tI (ar 0) i1) - q) twq hI (by omega)) (t0_k20) rfl q2593 q2595 qs56 q79 q2596 rfl (by decide +kernel) rfl ⟨⟨Nat.le_of_ble_eq_true rfl, Nat.le_of_ble_eq_true rfl⟩, ⟨(Nat.le_of_ble_eq_true rfl), (Nat.le_of_ble_eq_true rfl)⟩⟩ (Nat.le_of_ble_eq_true rfl) hl.1 rfl dX3_cleanest_80 cX_no (fun r23 σ23 H locs hp23 hW => ?_)
                  obtain ⟨rfl, tv23, fv23⟩ := hp23
                  refine W.eq (g2 := F0 m_ 83 ls ([])) rfl ?_
                  obtain ⟨t0_24, -, ta0_24, ta1_24, ta2_24, ta3_24, ta4_24, ta5_24, ta6_24, ta7_24, -, -⟩ := id tv23
                  have fm_24 : Fm σ σ23 m A := (fmq).trans fv23
                  have tw_24 : IsTw g σ23 m A (va_up iv 17 (nI 0)) wd ar (rsQ (ar 0) ((tI (ar 0) i1) - q) (rsD (ar 0) (tI (ar 0) i1) (rs0 (ar 0) i1) q) 8) := ⟨t0_24, tb0, ta0_24, ta1_24, ta2_24, ta3_24, ta4_24, ta5_24, ta6_24, ta7_24, tbb, tii⟩
                  refine lv_iinc (k := 3) (v := ((nI ((tI (ar 0) i1) - q)) + (-1))) (lv' := [(3, .int ((nI ((tI (ar 0) i1) - q)) + (-1))), (0, .ref m), (1, .int (nI i1)), (2, .int (nI j1))]) F.x F.cd dX3_cleanest_83 hl rfl (by rfl) (by decide) rfl (fun ls hl => ?_)
                  refine lv_goto (tgt := 74) F.x F.cd dX3_cleanest_86 (by decide) ?_
                  have hl : lv_has ls 5 [(3, .int (dn (tI (ar 0) i1) (q + 1))), (0, .ref m), (1, .int (nI i1)), (2, .int (nI j1))] := by rw [← dn_succ (st := (tI (ar 0) i1)) (j := q) (by omega)]; exact hl
                  have tw_26 : IsTw g σ23 m A (va_up iv 17 (nI 0)) wd ar (rsD (ar 0) (tI (ar 0) i1) (rs0 (ar 0) i1) (q + 1)) := by
                    rw [rsD]
                    exact ⟨t0_24, tb0, ta0_24, ta1_24, ta2_24, ta3_24, ta4_24, ta5_24, ta6_24, ta7_24, tbb, tii⟩
                  obtain ⟨t0_26, -, ta0_26, ta1_26, ta2_26, ta3_26, ta4_26, ta5_26, ta6_26, ta7_26, -, -⟩ := id tw_26
                  exact ih74 (q + 1) σ23 (by omega) (tw_26) (fm_24) H locs ls hW (lv_sub hl [1, 2, 3, 0] rfl)
              exact loop74 ((tI (ar 0) i1) + 1) 0 _  (by omega) (tw_18) (fm17) H locs ls hW (lv_sub hl [1, 2, 3, 0] rfl)
            · exact absurd c_33 (by omega)
          | succ nk ih29 =>
            intro k σk hknk twk fmk H locs ls hW hl
            obtain ⟨t0_k4, -, ta0_k4, ta1_k4, ta2_k4, ta3_k4, ta4_k4, ta5_k4, ta6_k4, ta7_k4, -, -⟩ := id twk
            refine lv_iload_n F.x F.cd dX3_cleanest_29 rfl (lv_at hl 3 rfl) ?_
            refine lv_sipush (v := (nI 2048)) F.x F.cd dX3_cleanest_30 (by decide) ?_
            refine n_icmp_ge (a := k) (b := 2048) (tgt := 49) F (by omega) (by omega) dX3_cleanest_33 (by decide) (fun c_33 => ?_) (fun c_33 => ?_)
            · exact absurd c_33 (by omega)
            · refine lv_aload_n F.x F.cd dX3_cleanest_36 rfl (lv_at hl 0 rfl) ?_
              refine s_get F hW (ci := 7) (C := RX3) (T := TX3) (N := 18) (v := .ref (A 4)) (t0_k4) rfl in_X3 6 (by decide) q2285 (fun _ h9 => h9) rfl dX3_cleanest_37 ?_
              refine lv_iload_n F.x F.cd dX3_cleanest_40 rfl (lv_at hl 3 rfl) ?_
              refine lv_iconst (v := (nI 0)) F.x F.cd dX3_cleanest_41 (by decide) ?_
              refine W.eq (g2 := F0 m_ 42 ls (.int (bI false) :: .int (nI k) :: .ref (A 4) :: [])) (by rfl) ?_
              refine n_zastN (i := k) F hW (ta4_k4) (tbb 4 (by decide)) (by omega) (by omega) dX3_cleanest_42 (fun H locs hW => ?_)
              obtain ⟨σ27, hσ27⟩ : ∃ z, z = sset σk (A 4) (eI g 2 2048 (fun x9 => bI ((va_up (fsT rb k) k false) x9))) := ⟨_, rfl⟩
              have hW : Hl g σ27 H locs := by rw [hσ27]; exact hW
              have w27 : σ27 (A 4) = some (eI g 2 2048 (fun x9 => bI ((va_up (fsT rb k) k false) x9))) := by rw [hσ27]; exact sset_eq
              have f28 : σ27 m = some (.inr (7, [.ref (A 0), .ref (A 1), .ref (A 2), .int (iv 3), .ref (A 3), .int (iv 5), .ref (A 4), .ref (A 5), .int (iv 8), .ref (A 6), .int (iv 10), .int (iv 11), .ref wd, .ref (A 7), .int (iv 14), .int (iv 15), .int (iv 16), .int (nI 0)])) := by rw [hσ27, sset_ne (sto_ne ta4_k4 t0_k4 (by simp))]; exact t0_k4
              have f29 : σ27 (A 0) = some (eI g 0 114 (fun x9 => nI ((ar 0) x9))) := by rw [hσ27, sset_ne (fun q9 => absurd (tii 0 4 (by decide) (by decide) q9) (by decide))]; exact ta0_k4
              have f30 : σ27 (A 1) = some (eI g 0 114 (fun x9 => nI ((ar 1) x9))) := by rw [hσ27, sset_ne (fun q9 => absurd (tii 1 4 (by decide) (by decide) q9) (by decide))]; exact ta1_k4
              have f31 : σ27 (A 2) = some (eI g 0 912 (fun x9 => nI ((ar 2) x9))) := by rw [hσ27, sset_ne (fun q9 => absurd (tii 2 4 (by decide) (by decide) q9) (by decide))]; exact ta2_k4
              have f32 : σ27 (A 3) = some (eI g 0 114 (fun x9 => nI ((ar 3) x9))) := by rw [hσ27, sset_ne (fun q9 => absurd (tii 3 4 (by decide) (by decide) q9) (by decide))]; exact ta3_k4
              have f33 : σ27 (A 5) = some (eI g 3 60 (fun x9 => nI ((ar 5) x9))) := by rw [hσ27, sset_ne (fun q9 => absurd (tii 5 4 (by decide) (by decide) q9) (by decide))]; exact ta5_k4
              have f34 : σ27 (A 6) = some (eI g 3 60 (fun x9 => nI ((ar 6) x9))) := by rw [hσ27, sset_ne (fun q9 => absurd (tii 6 4 (by decide) (by decide) q9) (by decide))]; exact ta6_k4
              have f35 : σ27 (A 7) = some (eI g 0 3 (fun x9 => nI ((ar 7) x9))) := by rw [hσ27, sset_ne (fun q9 => absurd (tii 7 4 (by decide) (by decide) q9) (by decide))]; exact ta7_k4
              refine lv_iinc (k := 3) (v := (nI (k + 1))) (lv' := [(3, .int (nI (k + 1))), (0, .ref m), (1, .int (nI i1)), (2, .int (nI j1))]) F.x F.cd dX3_cleanest_43 hl rfl (inc_nI k 1) (by decide) rfl (fun ls hl => ?_)
              refine lv_goto (tgt := 29) F.x F.cd dX3_cleanest_46 (by decide) ?_
              have tw36 : IsTw g σ27 m A (va_up iv 17 (nI 0)) wd ar (va_up (fsT rb k) k false) := ⟨f28, tb0, f29, f30, f31, f32, w27, f33, f34, f35, tbb, tii⟩
              have fm36 : Fm σ σ27 m A := by rw [hσ27]; exact (fmk).setA 4 (by decide)
              exact ih29 (k + 1) σ27 (by omega) (by rw [← fsT_s]; exact tw36) (fm36) H locs ls hW (lv_sub hl [1, 2, 3, 0] rfl)
        exact loop29 (2048) 0 _ (by omega) (by rw [fsT_0]; exact tw_2) (fm_2) H locs ls hW (lv_sub hl [1, 2, 3, 0] rfl)
      · refine lv_aload_n F.x F.cd dX3_cleanest_21 rfl (lv_at hl 0 rfl) ?_
        refine lv_iconst (v := (nI 2)) F.x F.cd dX3_cleanest_22 (by decide) ?_
        refine s_callV (As := [.int (nI 2)]) (rest := []) (C := RX3) (T := TX3) (N := 18) (n := 1) F hW (k_X3_raises g l σ1 m A _ _ _ _ (nI 2) tw_2 ) (t0_2) rfl q2362 q2364 qs37 q79 q2365 rfl (by decide +kernel) rfl ⟨⟨Nat.le_of_ble_eq_true rfl, Nat.le_of_ble_eq_true rfl⟩, ⟨(Nat.le_of_ble_eq_true rfl), (Nat.le_of_ble_eq_true rfl)⟩⟩ (Nat.le_of_ble_eq_true rfl) hl.1 rfl dX3_cleanest_23 cX_no (fun r38 σ38 H locs hp38 hW => ?_)
        obtain ⟨rfl, tv38, fv38⟩ := hp38
        refine W.eq (g2 := F0 m_ 26 ls (.int (nI 0) :: [])) rfl ?_
        obtain ⟨t0_39, -, ta0_39, ta1_39, ta2_39, ta3_39, ta4_39, ta5_39, ta6_39, ta7_39, -, -⟩ := id tv38
        have fm_39 : Fm σ σ38 m A := (fm_2).trans fv38
        have tw_39 : IsTw g σ38 m A (va_up iv 17 (nI 2)) wd ar rb := ⟨t0_39, tb0, ta0_39, ta1_39, ta2_39, ta3_39, ta4_39, ta5_39, ta6_39, ta7_39, tbb, tii⟩
        subst hQ
        exact s_reti (v := (nI 0)) F hW rfl (Or.inr (Or.inl ⟨i1, j1, hi1, hj1, rfl, rfl, c_18, rfl, tw_39, fm_39⟩)) ⟨(Nat.le_of_ble_eq_true rfl), (Nat.le_of_ble_eq_true rfl)⟩ dX3_cleanest_26
    · exact absurd c_6 (by decide)
  · have hz1 : (inN a ((ar 0) 0) && inN b ((ar 0) 0)) = false := hz1
    refine W.eq (g2 := F0 m_ 6 ls (.int (bI false) :: [])) rfl ?_
    obtain ⟨t0_40, -, ta0_40, ta1_40, ta2_40, ta3_40, ta4_40, ta5_40, ta6_40, ta7_40, -, -⟩ := id tv1
    have fm_40 : Fm σ σ1 m A := (Fm.refl).trans fv1
    have tw_40 : IsTw g σ1 m A (va_up iv 17 (nI 1)) wd ar rb := ⟨t0_40, tb0, ta0_40, ta1_40, ta2_40, ta3_40, ta4_40, ta5_40, ta6_40, ta7_40, tbb, tii⟩
    refine b_if_ne (b := false) (tgt := 11) F dX3_cleanest_6 (by decide) (fun c_6 => ?_) (fun c_6 => ?_)
    · exact absurd c_6 (by decide)
    · refine lv_iconst (v := (nI 0)) F.x F.cd dX3_cleanest_9 (by decide) ?_
      subst hQ
      exact s_reti (v := (nI 0)) F hW rfl (Or.inr (Or.inr ⟨hz1, rfl, tw_40, fm_40⟩)) ⟨(Nat.le_of_ble_eq_true rfl), (Nat.le_of_ble_eq_true rfl)⟩ dX3_cleanest_10
set_option maxHeartbeats 4000000 in
theorem k_X3_cleanestByPasses (g : Gh) (l : Launch) (σ : Sto) (m : Nat) (A : Nat → Nat) (iv : Nat → Int32) (wd : Nat) (ar : Nat → Nat → Nat) (rb : Nat → Bool) (a b : Int32) (hw : IsTw g σ m A iv wd ar rb) (hI : Inv (ar 0)) : Ct g l yX3_cleanestByPasses cX3_cleanestByPasses 3 (some .int) ({ frames := 5, cells := 0, slots := 0, locals := 117 } : Room) [.ref m, .int a, .int b] σ (fun r σ' => (∃ i j, i < ar 0 0 ∧ j < ar 0 0 ∧ a = nI i ∧ b = nI j ∧ conB (ar 0) 1 (-1) i j = true ∧ r = some (.int (nI (clM (ar 0) i j))) ∧ (∃ rb', IsTw g σ' m A (va_up iv 17 (nI 0)) wd ar rb') ∧ Fm σ σ' m A) ∨ (∃ i j, i < ar 0 0 ∧ j < ar 0 0 ∧ a = nI i ∧ b = nI j ∧ conB (ar 0) 1 (-1) i j = false ∧ r = some (.int (nI 0)) ∧ IsTw g σ' m A (va_up iv 17 (nI 2)) wd ar rb ∧ Fm σ σ' m A) ∨ ((inN a (ar 0 0) && inN b (ar 0 0)) = false ∧ r = some (.int (nI 0)) ∧ IsTw g σ' m A (va_up iv 17 (nI 1)) wd ar rb ∧ Fm σ σ' m A)) (nox) := by
  refine Ct.body (by decide) (Nat.le_of_ble_eq_true rfl) ?_
  intro p_ e_ s_ m_ args_ below_ meth_ c_ ls H locs Q F hW hl hQ
  have hl : lv_has ls 3 [(0, .ref m), (1, .int a), (2, .int b)] := hl
  obtain ⟨t0, tb0, ta0, ta1, ta2, ta3, ta4, ta5, ta6, ta7, tbb, tii⟩ := id hw
  have hv0 := hI.1
  have hv1 := hI.2.1
  refine lv_aload_n F.x F.cd dX3_cleanestByPasses_0 rfl (lv_at hl 0 rfl) ?_
  refine lv_iload_n F.x F.cd dX3_cleanestByPasses_1 rfl (lv_at hl 1 rfl) ?_
  refine lv_iload_n F.x F.cd dX3_cleanestByPasses_2 rfl (lv_at hl 2 rfl) ?_
  refine s_callV (As := [.int a, .int b]) (rest := []) (C := RX3) (T := TX3) (N := 18) (n := 2) F hW (k_X3_cleanest g l σ m A _ _ _ _ a b hw hI) (t0) rfl q2601 q2590 q2591 q79 q2592 rfl (by decide +kernel) rfl ⟨⟨Nat.le_of_ble_eq_true rfl, Nat.le_of_ble_eq_true rfl⟩, ⟨(Nat.le_of_ble_eq_true rfl), (Nat.le_of_ble_eq_true rfl)⟩⟩ (Nat.le_of_ble_eq_true rfl) hl.1 rfl dX3_cleanestByPasses_3 cX_no (fun r1 σ1 H locs hp1 hW => ?_)
  rcases hp1 with ⟨i, j, hi, hj, ea, eb, hc, rfl, ⟨rb2, tv⟩, fv⟩ | ⟨i, j, hi, hj, ea, eb, hc, rfl, tv, fv⟩ | ⟨hz, rfl, tv, fv⟩
  · refine W.eq (g2 := F0 m_ 6 ls (.int (nI (clM (ar 0) i j)) :: [])) rfl ?_
    subst hQ
    exact s_reti (v := (nI (clM (ar 0) i j))) F hW rfl (Or.inl ⟨i, j, hi, hj, ea, eb, hc, rfl, ⟨_, tv⟩, fv⟩) ⟨(Nat.le_of_ble_eq_true rfl), (Nat.le_of_ble_eq_true rfl)⟩ dX3_cleanestByPasses_6
  · refine W.eq (g2 := F0 m_ 6 ls (.int (nI 0) :: [])) rfl ?_
    subst hQ
    exact s_reti (v := (nI 0)) F hW rfl (Or.inr (Or.inl ⟨i, j, hi, hj, ea, eb, hc, rfl, tv, fv⟩)) ⟨(Nat.le_of_ble_eq_true rfl), (Nat.le_of_ble_eq_true rfl)⟩ dX3_cleanestByPasses_6
  · refine W.eq (g2 := F0 m_ 6 ls (.int (nI 0) :: [])) rfl ?_
    subst hQ
    exact s_reti (v := (nI 0)) F hW rfl (Or.inr (Or.inr ⟨hz, rfl, tv, fv⟩)) ⟨(Nat.le_of_ble_eq_true rfl), (Nat.le_of_ble_eq_true rfl)⟩ dX3_cleanestByPasses_6
