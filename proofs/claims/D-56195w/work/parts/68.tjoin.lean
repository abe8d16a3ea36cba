/-! ===== the twin: what is joined ===== -/
set_option maxRecDepth 100000
set_option maxHeartbeats 4000000 in
theorem k_X3_joined (g : Gh) (l : Launch) (σ : Sto) (m : Nat) (A : Nat → Nat) (iv : Nat → Int32) (wd : Nat) (ar : Nat → Nat → Nat) (rb : Nat → Bool) (t s : Nat) (c : Int32) (hw : IsTw g σ m A iv wd ar rb) (hI : Inv (ar 0)) (ht : t < ar 0 0) (hs : s ≤ 4) : Ct g l yX3_joined cX3_joined 8 (some .int) ({ frames := 2, cells := 0, slots := 0, locals := 43 } : Room) [.ref m, .int (nI t), .int (nI s), .int c] σ (fun r σ' => ∃ x, r = some (.int (nI x)) ∧ Bs x (jq (ar 0) s c (fun j => decide (j = t)) 8) ∧ σ' = σ) (nox) := by
  refine Ct.body (by decide) (Nat.le_of_ble_eq_true rfl) ?_
  intro p_ e_ s_ m_ args_ below_ meth_ c_ ls H locs Q F hW hl hQ
  have hl : lv_has ls 8 [(0, .ref m), (1, .int (nI t)), (2, .int (nI s)), (3, .int c)] := hl
  obtain ⟨t0, tb0, ta0, ta1, ta2, ta3, ta4, ta5, ta6, ta7, tbb, tii⟩ := id hw
  have hv0 := hI.1
  have hv1 := hI.2.1
  refine lv_iconst (v := (nI 1)) F.x F.cd dX3_joined_0 (by decide) ?_
  refine lv_iload_n F.x F.cd dX3_joined_1 rfl (lv_at hl 1 rfl) ?_
  refine a_ishl (v := (nI (2 ^ t))) F (sh1 _ (by omega)) dX3_joined_2 ?_
  refine lv_istore (lv' := [(4, .int (nI (2 ^ t))), (0, .ref m), (1, .int (nI t)), (2, .int (nI s)), (3, .int c)]) F.x F.cd dX3_joined_3 hl (by decide) rfl (fun ls hl => ?_)
  refine lv_iconst (v := (nI 0)) F.x F.cd dX3_joined_5 (by decide) ?_
  refine lv_istore (lv' := [(5, .int (nI 0)), (4, .int (nI (2 ^ t))), (0, .ref m), (1, .int (nI t)), (2, .int (nI s)), (3, .int c)]) F.x F.cd dX3_joined_6 hl (by decide) rfl (fun ls hl => ?_)
  have loop8 : ∀ (n : Nat) (i : Nat) (x : Nat), i + n = 8 → Bs x (jq (ar 0) s c (fun j => decide (j = t)) i) → ∀ (H : Heap) (locs : List Loc) (ls : Array Slot), Hl g σ H locs → lv_has ls 8 [(0, .ref m), (1, .int (nI t)), (2, .int (nI s)), (3, .int c), (4, .int (nI x)), (5, .int (nI i))] → W p_ l e_ ({ frames := 2, cells := 0, slots := 0, locals := 43 } : Room) s_ m_ args_ below_ meth_ c_ H locs 0 0 Q (F0 m_ 8 ls ([])) := by
    intro n
    induction n with
    | zero =>
      intro i x hkn hB H locs ls hW hl
      refine lv_iload F.x F.cd dX3_joined_8 (lv_at hl 5 rfl) ?_
      refine lv_bipush (v := (nI 8)) F.x F.cd dX3_joined_10 (by decide) ?_
      refine n_icmp_ge (a := i) (b := 8) (tgt := 103) F (by omega) (by omega) dX3_joined_12 (by decide) (fun c_12 => ?_) (fun c_12 => ?_)
      · refine lv_iload F.x F.cd dX3_joined_103 (lv_at hl 4 rfl) ?_
        subst hQ
        exact s_reti (v := (nI x)) F hW rfl (⟨x, rfl, by rw [← show i = 8 by omega]; exact hB, rfl⟩) ⟨(Nat.le_of_ble_eq_true rfl), (Nat.le_of_ble_eq_true rfl)⟩ dX3_joined_105
      · exact absurd c_12 (by omega)
    | succ n ih8 =>
      intro i x hkn hB H locs ls hW hl
      refine lv_iload F.x F.cd dX3_joined_8 (lv_at hl 5 rfl) ?_
      refine lv_bipush (v := (nI 8)) F.x F.cd dX3_joined_10 (by decide) ?_
      refine n_icmp_ge (a := i) (b := 8) (tgt := 103) F (by omega) (by omega) dX3_joined_12 (by decide) (fun c_12 => ?_) (fun c_12 => ?_)
      · exact absurd c_12 (by omega)
      · refine lv_iconst (v := (nI 0)) F.x F.cd dX3_joined_15 (by decide) ?_
        refine lv_istore (lv' := [(6, .int (nI 0)), (0, .ref m), (1, .int (nI t)), (2, .int (nI s)), (3, .int c), (4, .int (nI x)), (5, .int (nI i))]) F.x F.cd dX3_joined_16 hl (by decide) rfl (fun ls hl => ?_)
        have loop18 : ∀ (z : Nat) (j : Nat) (y : Nat), j + z = ar 0 1 → Bs y (jp (ar 0) s c (jq (ar 0) s c (fun j => decide (j = t)) i) j) → ∀ (H : Heap) (locs : List Loc) (ls : Array Slot), Hl g σ H locs → lv_has ls 8 [(0, .ref m), (1, .int (nI t)), (2, .int (nI s)), (3, .int c), (4, .int (nI y)), (5, .int (nI i)), (6, .int (nI j))] → W p_ l e_ ({ frames := 2, cells := 0, slots := 0, locals := 43 } : Room) s_ m_ args_ below_ meth_ c_ H locs 0 0 Q (F0 m_ 18 ls ([])) := by
          intro z
          induction z with
          | zero =>
            intro j y hkz hC H locs ls hW hl
            refine lv_iload F.x F.cd dX3_joined_18 (lv_at hl 6 rfl) ?_
            refine lv_aload_n F.x F.cd dX3_joined_20 rfl (lv_at hl 0 rfl) ?_
            refine s_get F hW (ci := 7) (C := RX3) (T := TX3) (N := 18) (v := .ref (A 0)) (t0) rfl in_X3 0 (by decide) q2279 (fun _ h9 => h9) rfl dX3_joined_21 ?_
            refine lv_iconst (v := (nI 1)) F.x F.cd dX3_joined_24 (by decide) ?_
            refine n_iald (i := 1) (n := 114) (f := (fun x9 => nI ((ar 0) x9))) (x := (nI (ar 0 1))) F hW (ta0) (by omega) (by omega) (rfl) dX3_joined_25 ?_
            refine n_icmp_ge (a := j) (b := ar 0 1) (tgt := 97) F (by omega) (by omega) dX3_joined_26 (by decide) (fun c_26 => ?_) (fun c_26 => ?_)
            · refine lv_iinc (k := 5) (v := (nI (i + 1))) (lv' := [(5, .int (nI (i + 1))), (0, .ref m), (1, .int (nI t)), (2, .int (nI s)), (3, .int c), (4, .int (nI y)), (6, .int (nI j))]) F.x F.cd dX3_joined_97 hl rfl (inc_nI i 1) (by decide) rfl (fun ls hl => ?_)
              refine lv_goto (tgt := 8) F.x F.cd dX3_joined_100 (by decide) ?_
              exact ih8 (i + 1) y (by omega) (by rw [jq, ← show j = ar 0 1 by omega]; exact hC) H locs ls hW (lv_sub hl [1, 2, 3, 4, 5, 0] rfl)
            · exact absurd c_26 (by omega)
          | succ z ih18 =>
            intro j y hkz hC H locs ls hW hl
            refine lv_iload F.x F.cd dX3_joined_18 (lv_at hl 6 rfl) ?_
            refine lv_aload_n F.x F.cd dX3_joined_20 rfl (lv_at hl 0 rfl) ?_
            refine s_get F hW (ci := 7) (C := RX3) (T := TX3) (N := 18) (v := .ref (A 0)) (t0) rfl in_X3 0 (by decide) q2279 (fun _ h9 => h9) rfl dX3_joined_21 ?_
            refine lv_iconst (v := (nI 1)) F.x F.cd dX3_joined_24 (by decide) ?_
            refine n_iald (i := 1) (n := 114) (f := (fun x9 => nI ((ar 0) x9))) (x := (nI (ar 0 1))) F hW (ta0) (by omega) (by omega) (rfl) dX3_joined_25 ?_
            refine n_icmp_ge (a := j) (b := ar 0 1) (tgt := 97) F (by omega) (by omega) dX3_joined_26 (by decide) (fun c_26 => ?_) (fun c_26 => ?_)
            · exact absurd c_26 (by omega)
            · have hjq : j < ar 0 1 := by omega
              obtain ⟨hqa, hqb, hqab, hqm, hqv, hqr, hqd⟩ := hI.pp hjq
              refine lv_iconst (v := (nI 1)) F.x F.cd dX3_joined_29 (by decide) ?_
              refine lv_aload_n F.x F.cd dX3_joined_30 rfl (lv_at hl 0 rfl) ?_
              refine lv_iload F.x F.cd dX3_joined_31 (lv_at hl 6 rfl) ?_
              refine lv_iconst (v := (nI 0)) F.x F.cd dX3_joined_33 (by decide) ?_
              refine s_callV (As := [.int (nI j), .int (nI 0)]) (rest := [.int (nI 1)]) (C := RX3) (T := TX3) (N := 18) (n := 2) F hW (k_X3_pipe g l σ m A _ _ _ _ j 0 hw (by omega) (by omega)) (t0) rfl q2406 q2408 qs44 q79 q2409 rfl (by decide +kernel) rfl ⟨⟨Nat.le_of_ble_eq_true rfl, Nat.le_of_ble_eq_true rfl⟩, ⟨(Nat.le_of_ble_eq_true rfl), (Nat.le_of_ble_eq_true rfl)⟩⟩ (Nat.le_of_ble_eq_true rfl) hl.1 rfl dX3_joined_34 cX_no (fun r1 σ1 H locs hp1 hW => ?_)
              obtain ⟨rfl, hs1⟩ := hp1
              rw [hs1] at hW
              refine W.eq (g2 := F0 m_ 37 ls (.int (nI (pA (ar 0) j)) :: .int (nI 1) :: [])) rfl ?_
              refine a_ishl (v := (nI (2 ^ (pA (ar 0) j)))) F (sh1 _ (by omega)) dX3_joined_37 ?_
              refine lv_iconst (v := (nI 1)) F.x F.cd dX3_joined_38 (by decide) ?_
              refine lv_aload_n F.x F.cd dX3_joined_39 rfl (lv_at hl 0 rfl) ?_
              refine lv_iload F.x F.cd dX3_joined_40 (lv_at hl 6 rfl) ?_
              refine lv_iconst (v := (nI 1)) F.x F.cd dX3_joined_42 (by decide) ?_
              refine s_callV (As := [.int (nI j), .int (nI 1)]) (rest := [.int (nI 1), .int (nI (2 ^ (pA (ar 0) j)))]) (C := RX3) (T := TX3) (N := 18) (n := 2) F hW (k_X3_pipe g l σ m A _ _ _ _ j 1 hw (by omega) (by omega)) (t0) rfl q2406 q2408 qs44 q79 q2409 rfl (by decide +kernel) rfl ⟨⟨Nat.le_of_ble_eq_true rfl, Nat.le_of_ble_eq_true rfl⟩, ⟨(Nat.le_of_ble_eq_true rfl), (Nat.le_of_ble_eq_true rfl)⟩⟩ (Nat.le_of_ble_eq_true rfl) hl.1 rfl dX3_joined_43 cX_no (fun r2 σ2 H locs hp2 hW => ?_)
              obtain ⟨rfl, hs2⟩ := hp2
              rw [hs2] at hW
              refine W.eq (g2 := F0 m_ 46 ls (.int (nI (pB (ar 0) j)) :: .int (nI 1) :: .int (nI (2 ^ (pA (ar 0) j))) :: [])) rfl ?_
              refine a_ishl (v := (nI (2 ^ (pB (ar 0) j)))) F (sh1 _ (by omega)) dX3_joined_46 ?_
              refine a_ior (v := (nI (2 ^ (pA (ar 0) j) ||| 2 ^ (pB (ar 0) j)))) F (nI_or _ _) dX3_joined_47 ?_
              refine lv_istore (lv' := [(7, .int (nI (2 ^ (pA (ar 0) j) ||| 2 ^ (pB (ar 0) j)))), (0, .ref m), (1, .int (nI t)), (2, .int (nI s)), (3, .int c), (4, .int (nI y)), (5, .int (nI i)), (6, .int (nI j))]) F.x F.cd dX3_joined_48 hl (by decide) rfl (fun ls hl => ?_)
              refine lv_iload F.x F.cd dX3_joined_50 (lv_at hl 7 rfl) ?_
              refine lv_iload_n F.x F.cd dX3_joined_52 rfl (lv_at hl 4 rfl) ?_
              refine lv_icmp_eq (x := (nI j)) (y := c) (tgt := 91) F.x F.cd dX3_joined_53 (by decide) (fun c_53 => ?_) (fun c_53 => ?_)
              · have hD : Bs (y) (jp (ar 0) s c (jq (ar 0) s c (fun j => decide (j = t)) i) (j + 1)) := by rw [jp_skip (use_f1 c_53)]; exact hC
                refine lv_iinc (k := 7) (v := (nI (j + 1))) (lv' := [(6, .int (nI (j + 1))), (7, .int (nI (2 ^ (pA (ar 0) j) ||| 2 ^ (pB (ar 0) j)))), (0, .ref m), (1, .int (nI t)), (2, .int (nI s)), (3, .int c), (4, .int (nI y)), (5, .int (nI i))]) F.x F.cd dX3_joined_91 hl rfl (inc_nI j 1) (by decide) rfl (fun ls hl => ?_)
                refine lv_goto (tgt := 18) F.x F.cd dX3_joined_94 (by decide) ?_
                exact ih18 (j + 1) y (by omega) (hD) H locs ls hW (lv_sub hl [2, 3, 4, 5, 6, 7, 0] rfl)
              · refine lv_aload_n F.x F.cd dX3_joined_56 rfl (lv_at hl 1 rfl) ?_
                refine lv_iload F.x F.cd dX3_joined_57 (lv_at hl 7 rfl) ?_
                refine s_callV (As := [.int (nI j)]) (rest := []) (C := RX3) (T := TX3) (N := 18) (n := 1) F hW (k_X3_goes g l σ m A _ _ _ _ j hw hI (by omega)) (t0) rfl q2434 q2436 qs48 q79 q2437 rfl (by decide +kernel) rfl ⟨⟨Nat.le_of_ble_eq_true rfl, Nat.le_of_ble_eq_true rfl⟩, ⟨(Nat.le_of_ble_eq_true rfl), (Nat.le_of_ble_eq_true rfl)⟩⟩ (Nat.le_of_ble_eq_true rfl) hl.1 rfl dX3_joined_59 cX_no (fun r3 σ3 H locs hp3 hW => ?_)
                obtain ⟨rfl, hs3⟩ := hp3
                rw [hs3] at hW
                refine W.eq (g2 := F0 m_ 62 ls (.int (bI (opv (ar 0) j)) :: [])) rfl ?_
                refine b_if_eq (b := (opv (ar 0) j)) (tgt := 91) F dX3_joined_62 (by decide) (fun c_62 => ?_) (fun c_62 => ?_)
                · have hD : Bs (y) (jp (ar 0) s c (jq (ar 0) s c (fun j => decide (j = t)) i) (j + 1)) := by rw [jp_skip (use_f2 c_62)]; exact hC
                  refine lv_iinc (k := 7) (v := (nI (j + 1))) (lv' := [(6, .int (nI (j + 1))), (7, .int (nI (2 ^ (pA (ar 0) j) ||| 2 ^ (pB (ar 0) j)))), (0, .ref m), (1, .int (nI t)), (2, .int (nI s)), (3, .int c), (4, .int (nI y)), (5, .int (nI i))]) F.x F.cd dX3_joined_91 hl rfl (inc_nI j 1) (by decide) rfl (fun ls hl => ?_)
                  refine lv_goto (tgt := 18) F.x F.cd dX3_joined_94 (by decide) ?_
                  exact ih18 (j + 1) y (by omega) (hD) H locs ls hW (lv_sub hl [2, 3, 4, 5, 6, 7, 0] rfl)
                · refine lv_aload_n F.x F.cd dX3_joined_65 rfl (lv_at hl 1 rfl) ?_
                  refine lv_iload F.x F.cd dX3_joined_66 (lv_at hl 7 rfl) ?_
                  refine lv_iconst (v := (nI 3)) F.x F.cd dX3_joined_68 (by decide) ?_
                  refine s_callV (As := [.int (nI j), .int (nI 3)]) (rest := []) (C := RX3) (T := TX3) (N := 18) (n := 2) F hW (k_X3_pipe g l σ m A _ _ _ _ j 3 hw (by omega) (by omega)) (t0) rfl q2406 q2408 qs44 q79 q2409 rfl (by decide +kernel) rfl ⟨⟨Nat.le_of_ble_eq_true rfl, Nat.le_of_ble_eq_true rfl⟩, ⟨(Nat.le_of_ble_eq_true rfl), (Nat.le_of_ble_eq_true rfl)⟩⟩ (Nat.le_of_ble_eq_true rfl) hl.1 rfl dX3_joined_69 cX_no (fun r4 σ4 H locs hp4 hW => ?_)
                  obtain ⟨rfl, hs4⟩ := hp4
                  rw [hs4] at hW
                  refine W.eq (g2 := F0 m_ 72 ls (.int (nI (pV (ar 0) j)) :: [])) rfl ?_
                  refine lv_iload_n F.x F.cd dX3_joined_72 rfl (lv_at hl 3 rfl) ?_
                  refine n_icmp_lt (a := pV (ar 0) j) (b := s) (tgt := 91) F (by omega) (by omega) dX3_joined_73 (by decide) (fun c_73 => ?_) (fun c_73 => ?_)
                  · have hD : Bs (y) (jp (ar 0) s c (jq (ar 0) s c (fun j => decide (j = t)) i) (j + 1)) := by rw [jp_skip (use_f3 c_73)]; exact hC
                    refine lv_iinc (k := 7) (v := (nI (j + 1))) (lv' := [(6, .int (nI (j + 1))), (7, .int (nI (2 ^ (pA (ar 0) j) ||| 2 ^ (pB (ar 0) j)))), (0, .ref m), (1, .int (nI t)), (2, .int (nI s)), (3, .int c), (4, .int (nI y)), (5, .int (nI i))]) F.x F.cd dX3_joined_91 hl rfl (inc_nI j 1) (by decide) rfl (fun ls hl => ?_)
                    refine lv_goto (tgt := 18) F.x F.cd dX3_joined_94 (by decide) ?_
                    exact ih18 (j + 1) y (by omega) (hD) H locs ls hW (lv_sub hl [2, 3, 4, 5, 6, 7, 0] rfl)
                  · have hyb : y &&& (2 ^ pA (ar 0) j ||| 2 ^ pB (ar 0) j) < 256 := Nat.lt_of_le_of_lt Nat.and_le_left hC.1
                    refine lv_iload F.x F.cd dX3_joined_76 (lv_at hl 5 rfl) ?_
                    refine lv_iload F.x F.cd dX3_joined_78 (lv_at hl 0 rfl) ?_
                    refine a_iand (v := (nI (y &&& (2 ^ (pA (ar 0) j) ||| 2 ^ (pB (ar 0) j))))) F (nI_and _ _) dX3_joined_80 ?_
                    refine n_if_eq (a := y &&& (2 ^ (pA (ar 0) j) ||| 2 ^ (pB (ar 0) j))) (tgt := 91) F (by omega) dX3_joined_81 (by decide) (fun c_81 => ?_) (fun c_81 => ?_)
                    · have hD : Bs (y) (jp (ar 0) s c (jq (ar 0) s c (fun j => decide (j = t)) i) (j + 1)) := by rw [jp_none ((hC.and (by omega) (by omega)).mp c_81)]; exact hC
                      refine lv_iinc (k := 7) (v := (nI (j + 1))) (lv' := [(6, .int (nI (j + 1))), (7, .int (nI (2 ^ (pA (ar 0) j) ||| 2 ^ (pB (ar 0) j)))), (0, .ref m), (1, .int (nI t)), (2, .int (nI s)), (3, .int c), (4, .int (nI y)), (5, .int (nI i))]) F.x F.cd dX3_joined_91 hl rfl (inc_nI j 1) (by decide) rfl (fun ls hl => ?_)
                      refine lv_goto (tgt := 18) F.x F.cd dX3_joined_94 (by decide) ?_
                      exact ih18 (j + 1) y (by omega) (hD) H locs ls hW (lv_sub hl [2, 3, 4, 5, 6, 7, 0] rfl)
                    · refine lv_iload F.x F.cd dX3_joined_84 (lv_at hl 5 rfl) ?_
                      refine lv_iload F.x F.cd dX3_joined_86 (lv_at hl 0 rfl) ?_
                      refine a_ior (v := (nI (y ||| (2 ^ (pA (ar 0) j) ||| 2 ^ (pB (ar 0) j))))) F (nI_or _ _) dX3_joined_88 ?_
                      refine lv_istore (lv' := [(4, .int (nI (y ||| (2 ^ (pA (ar 0) j) ||| 2 ^ (pB (ar 0) j))))), (7, .int (nI (2 ^ (pA (ar 0) j) ||| 2 ^ (pB (ar 0) j)))), (0, .ref m), (1, .int (nI t)), (2, .int (nI s)), (3, .int c), (5, .int (nI i)), (6, .int (nI j))]) F.x F.cd dX3_joined_89 hl (by decide) rfl (fun ls hl => ?_)
                      have hD : Bs (y ||| (2 ^ (pA (ar 0) j) ||| 2 ^ (pB (ar 0) j))) (jp (ar 0) s c (jq (ar 0) s c (fun j => decide (j = t)) i) (j + 1)) := by rw [jp_do (use_t c_53 c_62 c_73) (fun h9 => c_81 ((hC.and (by omega) (by omega)).mpr h9))]; exact hC.or (by omega) (by omega)
                      refine lv_iinc (k := 7) (v := (nI (j + 1))) (lv' := [(6, .int (nI (j + 1))), (4, .int (nI (y ||| (2 ^ (pA (ar 0) j) ||| 2 ^ (pB (ar 0) j))))), (7, .int (nI (2 ^ (pA (ar 0) j) ||| 2 ^ (pB (ar 0) j)))), (0, .ref m), (1, .int (nI t)), (2, .int (nI s)), (3, .int c), (5, .int (nI i))]) F.x F.cd dX3_joined_91 hl rfl (inc_nI j 1) (by decide) rfl (fun ls hl => ?_)
                      refine lv_goto (tgt := 18) F.x F.cd dX3_joined_94 (by decide) ?_
                      exact ih18 (j + 1) (y ||| (2 ^ (pA (ar 0) j) ||| 2 ^ (pB (ar 0) j))) (by omega) (hD) H locs ls hW (lv_sub hl [3, 4, 5, 6, 1, 7, 0] rfl)
        exact loop18 (ar 0 1) 0 x (by omega) (hB) H locs ls hW (lv_sub hl [1, 2, 3, 4, 5, 6, 0] rfl)
  exact loop8 (8) 0 (2 ^ t) (by omega) (Bs.start (by omega)) H locs ls hW (lv_sub hl [2, 3, 4, 5, 1, 0] rfl)
set_option maxHeartbeats 4000000 in
theorem k_X3_joins (g : Gh) (l : Launch) (σ : Sto) (m : Nat) (A : Nat → Nat) (iv : Nat → Int32) (wd : Nat) (ar : Nat → Nat → Nat) (rb : Nat → Bool) (i j s : Nat) (hw : IsTw g σ m A iv wd ar rb) (hI : Inv (ar 0)) (hi : i < ar 0 0) (hj : j < ar 0 0) (hs : s ≤ 4) : Ct g l yX3_joins cX3_joins 4 (some .boolean) ({ frames := 3, cells := 0, slots := 0, locals := 70 } : Room) [.ref m, .int (nI i), .int (nI j), .int (nI s)] σ (fun r σ' => r = some (.int (bI (conB (ar 0) s (-1) i j))) ∧ σ' = σ) (nox) := by
  refine Ct.body (by decide) (Nat.le_of_ble_eq_true rfl) ?_
  intro p_ e_ s_ m_ args_ below_ meth_ c_ ls H locs Q F hW hl hQ
  have hl : lv_has ls 4 [(0, .ref m), (1, .int (nI i)), (2, .int (nI j)), (3, .int (nI s))] := hl
  obtain ⟨t0, tb0, ta0, ta1, ta2, ta3, ta4, ta5, ta6, ta7, tbb, tii⟩ := id hw
  have hv0 := hI.1
  have hv1 := hI.2.1
  refine lv_aload_n F.x F.cd dX3_joins_0 rfl (lv_at hl 0 rfl) ?_
  refine lv_iload_n F.x F.cd dX3_joins_1 rfl (lv_at hl 1 rfl) ?_
  refine lv_iload_n F.x F.cd dX3_joins_2 rfl (lv_at hl 3 rfl) ?_
  refine lv_iconst (v := (-1 : Int32)) F.x F.cd dX3_joins_3 (by decide) ?_
  refine s_callV (As := [.int (nI i), .int (nI s), .int (-1 : Int32)]) (rest := []) (C := RX3) (T := TX3) (N := 18) (n := 3) F hW (k_X3_joined g l σ m A _ _ _ _ i s (-1 : Int32) hw hI (by omega) (by omega)) (t0) rfl q2550 q2552 qs54 q79 q2553 rfl (by decide +kernel) rfl ⟨⟨Nat.le_of_ble_eq_true rfl, Nat.le_of_ble_eq_true rfl⟩, ⟨(Nat.le_of_ble_eq_true rfl), (Nat.le_of_ble_eq_true rfl)⟩⟩ (Nat.le_of_ble_eq_true rfl) hl.1 rfl dX3_joins_4 cX_no (fun r1 σ1 H locs hp1 hW => ?_)
  obtain ⟨xx, rfl, hBx, hs1⟩ := hp1
  rw [hs1] at hW
  refine W.eq (g2 := F0 m_ 7 ls (.int (nI xx) :: [])) rfl ?_
  refine lv_iload_n F.x F.cd dX3_joins_7 rfl (lv_at hl 2 rfl) ?_
  refine a_ishr (v := (nI xx >>> (nI j &&& 31))) F (rfl) dX3_joins_8 ?_
  refine lv_iconst (v := (nI 1)) F.x F.cd dX3_joins_9 (by decide) ?_
  refine a_iand (v := (bI (conB (ar 0) s (-1) i j))) F (hBx.get (by omega)) dX3_joins_10 ?_
  refine lv_iconst (v := (nI 1)) F.x F.cd dX3_joins_11 (by decide) ?_
  refine lv_icmp_ne (x := (bI (conB (ar 0) s (-1) i j))) (y := (nI 1)) (tgt := 19) F.x F.cd dX3_joins_12 (by decide) (fun c_12 => ?_) (fun c_12 => ?_)
  · refine lv_iconst (v := (nI 0)) F.x F.cd dX3_joins_19 (by decide) ?_
    subst hQ
    exact s_reti (v := (nI 0)) F hW (by decide) (⟨by rw [show conB (ar 0) s (-1) i j = false from Bool.eq_false_iff.mpr (fun h9 => c_12 (bI_one.mpr h9))]; rfl, rfl⟩) ⟨(Nat.le_of_ble_eq_true rfl), (Nat.le_of_ble_eq_true rfl)⟩ dX3_joins_20
  · refine lv_iconst (v := (nI 1)) F.x F.cd dX3_joins_15 (by decide) ?_
    refine lv_goto (tgt := 20) F.x F.cd dX3_joins_16 (by decide) ?_
    subst hQ
    exact s_reti (v := (nI 1)) F hW (by decide) (⟨by rw [bI_one.mp c_12]; rfl, rfl⟩) ⟨(Nat.le_of_ble_eq_true rfl), (Nat.le_of_ble_eq_true rfl)⟩ dX3_joins_20
set_option maxHeartbeats 4000000 in
theorem k_X3_areTanks (g : Gh) (l : Launch) (σ : Sto) (m : Nat) (A : Nat → Nat) (iv : Nat → Int32) (wd : Nat) (ar : Nat → Nat → Nat) (rb : Nat → Bool) (a b : Int32) (hw : IsTw g σ m A iv wd ar rb) (hI : Inv (ar 0)) : Ct g l yX3_areTanks cX3_areTanks 3 (some .boolean) ({ frames := 2, cells := 0, slots := 0, locals := 43 } : Room) [.ref m, .int a, .int b] σ (fun r σ' => (∃ i j, i < ar 0 0 ∧ j < ar 0 0 ∧ a = nI i ∧ b = nI j ∧ r = some (.int (bI true)) ∧ IsTw g σ' m A (va_up iv 17 (nI 0)) wd ar rb ∧ Fm σ σ' m A) ∨ ((inN a (ar 0 0) && inN b (ar 0 0)) = false ∧ r = some (.int (bI false)) ∧ IsTw g σ' m A (va_up iv 17 (nI 1)) wd ar rb ∧ Fm σ σ' m A)) (nox) := by
  refine Ct.body (by decide) (Nat.le_of_ble_eq_true rfl) ?_
  intro p_ e_ s_ m_ args_ below_ meth_ c_ ls H locs Q F hW hl hQ
  have hl : lv_has ls 3 [(0, .ref m), (1, .int a), (2, .int b)] := hl
  obtain ⟨t0, tb0, ta0, ta1, ta2, ta3, ta4, ta5, ta6, ta7, tbb, tii⟩ := id hw
  have hv0 := hI.1
  have hv1 := hI.2.1
  refine lv_aload_n F.x F.cd dX3_areTanks_0 rfl (lv_at hl 0 rfl) ?_
  refine lv_aload_n F.x F.cd dX3_areTanks_1 rfl (lv_at hl 0 rfl) ?_
  refine lv_iload_n F.x F.cd dX3_areTanks_2 rfl (lv_at hl 1 rfl) ?_
  refine s_callV (As := [.int a]) (rest := [.ref m]) (C := RX3) (T := TX3) (N := 18) (n := 1) F hW (k_X3_isTank g l σ m A _ _ _ _ a hw ) (t0) rfl q2374 q2376 qs39 q79 q2377 rfl (by decide +kernel) rfl ⟨⟨Nat.le_of_ble_eq_true rfl, Nat.le_of_ble_eq_true rfl⟩, ⟨(Nat.le_of_ble_eq_true rfl), (Nat.le_of_ble_eq_true rfl)⟩⟩ (Nat.le_of_ble_eq_true rfl) hl.1 rfl dX3_areTanks_3 cX_no (fun r1 σ1 H locs hp1 hW => ?_)
  obtain ⟨rfl, hs1⟩ := hp1
  rw [hs1] at hW
  refine W.eq (g2 := F0 m_ 6 ls (.int (bI (inN a ((ar 0) 0))) :: .ref m :: [])) rfl ?_
  refine b_if_eq (b := (inN a ((ar 0) 0))) (tgt := 21) F dX3_areTanks_6 (by decide) (fun c_6 => ?_) (fun c_6 => ?_)
  · refine lv_iconst (v := (nI 1)) F.x F.cd dX3_areTanks_21 (by decide) ?_
    refine s_put F hW (ci := 7) (C := RX3) (T := TX3) (N := 18) (v := .int (nI 1)) (ty := .int) (t0) (tb0) rfl in_X3 tyX3_ok nmX3 17 (by decide) q2296 (fun _ h9 => h9) rfl (by decide +kernel) rfl rfl (Nat.le_of_ble_eq_true rfl) dX3_areTanks_22 (fun H locs hW => ?_)
    obtain ⟨σ3, hσ3⟩ : ∃ z, z = sset σ m (.inr (7, [.ref (A 0), .ref (A 1), .ref (A 2), .int (iv 3), .ref (A 3), .int (iv 5), .ref (A 4), .ref (A 5), .int (iv 8), .ref (A 6), .int (iv 10), .int (iv 11), .ref wd, .ref (A 7), .int (iv 14), .int (iv 15), .int (iv 16), .int (nI 1)])) := ⟨_, rfl⟩
    have hW : Hl g σ3 H locs := by rw [hσ3]; exact hW
    have w3 : σ3 m = some (.inr (7, [.ref (A 0), .ref (A 1), .ref (A 2), .int (iv 3), .ref (A 3), .int (iv 5), .ref (A 4), .ref (A 5), .int (iv 8), .ref (A 6), .int (iv 10), .int (iv 11), .ref wd, .ref (A 7), .int (iv 14), .int (iv 15), .int (iv 16), .int (nI 1)])) := by rw [hσ3]; exact sset_eq
    have f4 : σ3 (A 0) = some (eI g 0 114 (fun x9 => nI ((ar 0) x9))) := by rw [hσ3, sset_ne (sto_ne t0 ta0 (by simp))]; exact ta0
    have f5 : σ3 (A 1) = some (eI g 0 114 (fun x9 => nI ((ar 1) x9))) := by rw [hσ3, sset_ne (sto_ne t0 ta1 (by simp))]; exact ta1
    have f6 : σ3 (A 2) = some (eI g 0 912 (fun x9 => nI ((ar 2) x9))) := by rw [hσ3, sset_ne (sto_ne t0 ta2 (by simp))]; exact ta2
    have f7 : σ3 (A 3) = some (eI g 0 114 (fun x9 => nI ((ar 3) x9))) := by rw [hσ3, sset_ne (sto_ne t0 ta3 (by simp))]; exact ta3
    have f8 : σ3 (A 4) = some (eI g 2 2048 (fun x9 => bI (rb x9))) := by rw [hσ3, sset_ne (sto_ne t0 ta4 (by simp))]; exact ta4
    have f9 : σ3 (A 5) = some (eI g 3 60 (fun x9 => nI ((ar 5) x9))) := by rw [hσ3, sset_ne (sto_ne t0 ta5 (by simp))]; exact ta5
    have f10 : σ3 (A 6) = some (eI g 3 60 (fun x9 => nI ((ar 6) x9))) := by rw [hσ3, sset_ne (sto_ne t0 ta6 (by simp))]; exact ta6
    have f11 : σ3 (A 7) = some (eI g 0 3 (fun x9 => nI ((ar 7) x9))) := by rw [hσ3, sset_ne (sto_ne t0 ta7 (by simp))]; exact ta7
    refine lv_aload_n F.x F.cd dX3_areTanks_25 rfl (lv_at hl 0 rfl) ?_
    refine s_get F hW (ci := 7) (C := RX3) (T := TX3) (N := 18) (v := .int (nI 1)) (w3) rfl in_X3 17 (by decide) q2296 (fun _ h9 => h9) rfl dX3_areTanks_26 ?_
    refine n_if_ne (a := 1) (tgt := 36) F (by omega) dX3_areTanks_29 (by decide) (fun c_29 => ?_) (fun c_29 => absurd c_29 (by decide))
    refine lv_iconst (v := (nI 0)) F.x F.cd dX3_areTanks_36 (by decide) ?_
    have tw12 : IsTw g σ3 m A (va_up iv 17 (nI 1)) wd ar rb := ⟨w3, tb0, f4, f5, f6, f7, f8, f9, f10, f11, tbb, tii⟩
    have fm12 : Fm σ σ3 m A := by rw [hσ3]; exact (Fm.refl).setM
    subst hQ
    exact s_reti (v := (nI 0)) F hW (by decide) (Or.inr ⟨by simp [c_6], rfl, tw12, fm12⟩) ⟨(Nat.le_of_ble_eq_true rfl), (Nat.le_of_ble_eq_true rfl)⟩ dX3_areTanks_37
  · refine lv_aload_n F.x F.cd dX3_areTanks_9 rfl (lv_at hl 0 rfl) ?_
    refine lv_iload_n F.x F.cd dX3_areTanks_10 rfl (lv_at hl 2 rfl) ?_
    refine s_callV (As := [.int b]) (rest := [.ref m]) (C := RX3) (T := TX3) (N := 18) (n := 1) F hW (k_X3_isTank g l σ m A _ _ _ _ b hw ) (t0) rfl q2374 q2376 qs39 q79 q2377 rfl (by decide +kernel) rfl ⟨⟨Nat.le_of_ble_eq_true rfl, Nat.le_of_ble_eq_true rfl⟩, ⟨(Nat.le_of_ble_eq_true rfl), (Nat.le_of_ble_eq_true rfl)⟩⟩ (Nat.le_of_ble_eq_true rfl) hl.1 rfl dX3_areTanks_11 cX_no (fun r13 σ13 H locs hp13 hW => ?_)
    obtain ⟨rfl, hs13⟩ := hp13
    rw [hs13] at hW
    refine W.eq (g2 := F0 m_ 14 ls (.int (bI (inN b ((ar 0) 0))) :: .ref m :: [])) rfl ?_
    refine b_if_eq (b := (inN b ((ar 0) 0))) (tgt := 21) F dX3_areTanks_14 (by decide) (fun c_14 => ?_) (fun c_14 => ?_)
    · refine lv_iconst (v := (nI 1)) F.x F.cd dX3_areTanks_21 (by decide) ?_
      refine s_put F hW (ci := 7) (C := RX3) (T := TX3) (N := 18) (v := .int (nI 1)) (ty := .int) (t0) (tb0) rfl in_X3 tyX3_ok nmX3 17 (by decide) q2296 (fun _ h9 => h9) rfl (by decide +kernel) rfl rfl (Nat.le_of_ble_eq_true rfl) dX3_areTanks_22 (fun H locs hW => ?_)
      obtain ⟨σ15, hσ15⟩ : ∃ z, z = sset σ m (.inr (7, [.ref (A 0), .ref (A 1), .ref (A 2), .int (iv 3), .ref (A 3), .int (iv 5), .ref (A 4), .ref (A 5), .int (iv 8), .ref (A 6), .int (iv 10), .int (iv 11), .ref wd, .ref (A 7), .int (iv 14), .int (iv 15), .int (iv 16), .int (nI 1)])) := ⟨_, rfl⟩
      have hW : Hl g σ15 H locs := by rw [hσ15]; exact hW
      have w15 : σ15 m = some (.inr (7, [.ref (A 0), .ref (A 1), .ref (A 2), .int (iv 3), .ref (A 3), .int (iv 5), .ref (A 4), .ref (A 5), .int (iv 8), .ref (A 6), .int (iv 10), .int (iv 11), .ref wd, .ref (A 7), .int (iv 14), .int (iv 15), .int (iv 16), .int (nI 1)])) := by rw [hσ15]; exact sset_eq
      have f16 : σ15 (A 0) = some (eI g 0 114 (fun x9 => nI ((ar 0) x9))) := by rw [hσ15, sset_ne (sto_ne t0 ta0 (by simp))]; exact ta0
      have f17 : σ15 (A 1) = some (eI g 0 114 (fun x9 => nI ((ar 1) x9))) := by rw [hσ15, sset_ne (sto_ne t0 ta1 (by simp))]; exact ta1
      have f18 : σ15 (A 2) = some (eI g 0 912 (fun x9 => nI ((ar 2) x9))) := by rw [hσ15, sset_ne (sto_ne t0 ta2 (by simp))]; exact ta2
      have f19 : σ15 (A 3) = some (eI g 0 114 (fun x9 => nI ((ar 3) x9))) := by rw [hσ15, sset_ne (sto_ne t0 ta3 (by simp))]; exact ta3
      have f20 : σ15 (A 4) = some (eI g 2 2048 (fun x9 => bI (rb x9))) := by rw [hσ15, sset_ne (sto_ne t0 ta4 (by simp))]; exact ta4
      have f21 : σ15 (A 5) = some (eI g 3 60 (fun x9 => nI ((ar 5) x9))) := by rw [hσ15, sset_ne (sto_ne t0 ta5 (by simp))]; exact ta5
      have f22 : σ15 (A 6) = some (eI g 3 60 (fun x9 => nI ((ar 6) x9))) := by rw [hσ15, sset_ne (sto_ne t0 ta6 (by simp))]; exact ta6
      have f23 : σ15 (A 7) = some (eI g 0 3 (fun x9 => nI ((ar 7) x9))) := by rw [hσ15, sset_ne (sto_ne t0 ta7 (by simp))]; exact ta7
      refine lv_aload_n F.x F.cd dX3_areTanks_25 rfl (lv_at hl 0 rfl) ?_
      refine s_get F hW (ci := 7) (C := RX3) (T := TX3) (N := 18) (v := .int (nI 1)) (w15) rfl in_X3 17 (by decide) q2296 (fun _ h9 => h9) rfl dX3_areTanks_26 ?_
      refine n_if_ne (a := 1) (tgt := 36) F (by omega) dX3_areTanks_29 (by decide) (fun c_29 => ?_) (fun c_29 => absurd c_29 (by decide))
      refine lv_iconst (v := (nI 0)) F.x F.cd dX3_areTanks_36 (by decide) ?_
      have tw24 : IsTw g σ15 m A (va_up iv 17 (nI 1)) wd ar rb := ⟨w15, tb0, f16, f17, f18, f19, f20, f21, f22, f23, tbb, tii⟩
      have fm24 : Fm σ σ15 m A := by rw [hσ15]; exact (Fm.refl).setM
      subst hQ
      exact s_reti (v := (nI 0)) F hW (by decide) (Or.inr ⟨by simp [c_6, c_14], rfl, tw24, fm24⟩) ⟨(Nat.le_of_ble_eq_true rfl), (Nat.le_of_ble_eq_true rfl)⟩ dX3_areTanks_37
    · refine lv_iconst (v := (nI 0)) F.x F.cd dX3_areTanks_17 (by decide) ?_
      refine lv_goto (tgt := 22) F.x F.cd dX3_areTanks_18 (by decide) ?_
      refine s_put F hW (ci := 7) (C := RX3) (T := TX3) (N := 18) (v := .int (nI 0)) (ty := .int) (t0) (tb0) rfl in_X3 tyX3_ok nmX3 17 (by decide) q2296 (fun _ h9 => h9) rfl (by decide +kernel) rfl rfl (Nat.le_of_ble_eq_true rfl) dX3_areTanks_22 (fun H locs hW => ?_)
      obtain ⟨σ26, hσ26⟩ : ∃ z, z = sset σ m (.inr (7, [.ref (A 0), .ref (A 1), .ref (A 2), .int (iv 3), .ref (A 3), .int (iv 5), .ref (A 4), .ref (A 5), .int (iv 8), .ref (A 6), .int (iv 10), .int (iv 11), .ref wd, .ref (A 7), .int (iv 14), .int (iv 15), .int (iv 16), .int (nI 0)])) := ⟨_, rfl⟩
      have hW : Hl g σ26 H locs := by rw [hσ26]; exact hW
      have w26 : σ26 m = some (.inr (7, [.ref (A 0), .ref (A 1), .ref (A 2), .int (iv 3), .ref (A 3), .int (iv 5), .ref (A 4), .ref (A 5), .int (iv 8), .ref (A 6), .int (iv 10), .int (iv 11), .ref wd, .ref (A 7), .int (iv 14), .int (iv 15), .int (iv 16), .int (nI 0)])) := by rw [hσ26]; exact sset_eq
      have f27 : σ26 (A 0) = some (eI g 0 114 (fun x9 => nI ((ar 0) x9))) := by rw [hσ26, sset_ne (sto_ne t0 ta0 (by simp))]; exact ta0
      have f28 : σ26 (A 1) = some (eI g 0 114 (fun x9 => nI ((ar 1) x9))) := by rw [hσ26, sset_ne (sto_ne t0 ta1 (by simp))]; exact ta1
      have f29 : σ26 (A 2) = some (eI g 0 912 (fun x9 => nI ((ar 2) x9))) := by rw [hσ26, sset_ne (sto_ne t0 ta2 (by simp))]; exact ta2
      have f30 : σ26 (A 3) = some (eI g 0 114 (fun x9 => nI ((ar 3) x9))) := by rw [hσ26, sset_ne (sto_ne t0 ta3 (by simp))]; exact ta3
      have f31 : σ26 (A 4) = some (eI g 2 2048 (fun x9 => bI (rb x9))) := by rw [hσ26, sset_ne (sto_ne t0 ta4 (by simp))]; exact ta4
      have f32 : σ26 (A 5) = some (eI g 3 60 (fun x9 => nI ((ar 5) x9))) := by rw [hσ26, sset_ne (sto_ne t0 ta5 (by simp))]; exact ta5
      have f33 : σ26 (A 6) = some (eI g 3 60 (fun x9 => nI ((ar 6) x9))) := by rw [hσ26, sset_ne (sto_ne t0 ta6 (by simp))]; exact ta6
      have f34 : σ26 (A 7) = some (eI g 0 3 (fun x9 => nI ((ar 7) x9))) := by rw [hσ26, sset_ne (sto_ne t0 ta7 (by simp))]; exact ta7
      refine lv_aload_n F.x F.cd dX3_areTanks_25 rfl (lv_at hl 0 rfl) ?_
      refine s_get F hW (ci := 7) (C := RX3) (T := TX3) (N := 18) (v := .int (nI 0)) (w26) rfl in_X3 17 (by decide) q2296 (fun _ h9 => h9) rfl dX3_areTanks_26 ?_
      refine n_if_ne (a := 0) (tgt := 36) F (by omega) dX3_areTanks_29 (by decide) (fun c_29 => absurd (by decide) c_29) (fun c_29 => ?_)
      refine lv_iconst (v := (nI 1)) F.x F.cd dX3_areTanks_32 (by decide) ?_
      refine lv_goto (tgt := 37) F.x F.cd dX3_areTanks_33 (by decide) ?_
      have tw35 : IsTw g σ26 m A (va_up iv 17 (nI 0)) wd ar rb := ⟨w26, tb0, f27, f28, f29, f30, f31, f32, f33, f34, tbb, tii⟩
      have fm35 : Fm σ σ26 m A := by rw [hσ26]; exact (Fm.refl).setM
      obtain ⟨i, hi, rfl⟩ := (inN_iff (show ar 0 0 < 2 ^ 30 by omega)).mp c_6
      obtain ⟨j, hj, rfl⟩ := (inN_iff (show ar 0 0 < 2 ^ 30 by omega)).mp c_14
      subst hQ
      exact s_reti (v := (nI 1)) F hW (by decide) (Or.inl ⟨i, j, hi, hj, rfl, rfl, rfl, tw35, fm35⟩) ⟨(Nat.le_of_ble_eq_true rfl), (Nat.le_of_ble_eq_true rfl)⟩ dX3_areTanks_37
set_option maxHeartbeats 4000000 in
theorem k_X3_areConnected (g : Gh) (l : Launch) (σ : Sto) (m : Nat) (A : Nat → Nat) (iv : Nat → Int32) (wd : Nat) (ar : Nat → Nat → Nat) (rb : Nat → Bool) (a b : Int32) (hw : IsTw g σ m A iv wd ar rb) (hI : Inv (ar 0)) : Ct g l yX3_areConnected cX3_areConnected 3 (some .boolean) ({ frames := 4, cells := 0, slots := 0, locals := 93 } : Room) [.ref m, .int a, .int b] σ (fun r σ' => (∃ i j, i < ar 0 0 ∧ j < ar 0 0 ∧ a = nI i ∧ b = nI j ∧ r = some (.int (bI (conB (ar 0) 1 (-1) i j))) ∧ IsTw g σ' m A (va_up iv 17 (nI 0)) wd ar rb ∧ Fm σ σ' m A) ∨ ((inN a (ar 0 0) && inN b (ar 0 0)) = false ∧ r = some (.int (bI false)) ∧ IsTw g σ' m A (va_up iv 17 (nI 1)) wd ar rb ∧ Fm σ σ' m A)) (nox) := by
  refine Ct.body (by decide) (Nat.le_of_ble_eq_true rfl) ?_
  intro p_ e_ s_ m_ args_ below_ meth_ c_ ls H locs Q F hW hl hQ
  have hl : lv_has ls 3 [(0, .ref m), (1, .int a), (2, .int b)] := hl
  obtain ⟨t0, tb0, ta0, ta1, ta2, ta3, ta4, ta5, ta6, ta7, tbb, tii⟩ := id hw
  have hv0 := hI.1
  have hv1 := hI.2.1
  refine lv_aload_n F.x F.cd dX3_areConnected_0 rfl (lv_at hl 0 rfl) ?_
  refine lv_iload_n F.x F.cd dX3_areConnected_1 rfl (lv_at hl 1 rfl) ?_
  refine lv_iload_n F.x F.cd dX3_areConnected_2 rfl (lv_at hl 2 rfl) ?_
  refine s_callV (As := [.int a, .int b]) (rest := []) (C := RX3) (T := TX3) (N := 18) (n := 2) F hW (k_X3_areTanks g l σ m A _ _ _ _ a b hw hI) (t0) rfl q2542 q2544 qs52 q79 q2545 rfl (by decide +kernel) rfl ⟨⟨Nat.le_of_ble_eq_true rfl, Nat.le_of_ble_eq_true rfl⟩, ⟨(Nat.le_of_ble_eq_true rfl), (Nat.le_of_ble_eq_true rfl)⟩⟩ (Nat.le_of_ble_eq_true rfl) hl.1 rfl dX3_areConnected_3 cX_no (fun r1 σ1 H locs hp1 hW => ?_)
  rcases hp1 with ⟨i1, j1, hi1, hj1, rfl, rfl, rfl, tv1, fv1⟩ | ⟨hz1, rfl, tv1, fv1⟩
  · have hi1 : i1 < (ar 0) 0 := hi1
    have hj1 : j1 < (ar 0) 0 := hj1
    refine W.eq (g2 := F0 m_ 6 ls (.int (bI true) :: [])) rfl ?_
    obtain ⟨t0_2, -, ta0_2, ta1_2, ta2_2, ta3_2, ta4_2, ta5_2, ta6_2, ta7_2, -, -⟩ := id tv1
    have fm_2 : Fm σ σ1 m A := (Fm.refl).trans fv1
    have tw_2 : IsTw g σ1 m A (va_up iv 17 (nI 0)) wd ar rb := ⟨t0_2, tb0, ta0_2, ta1_2, ta2_2, ta3_2, ta4_2, ta5_2, ta6_2, ta7_2, tbb, tii⟩
    refine b_if_eq (b := true) (tgt := 23) F dX3_areConnected_6 (by decide) (fun c_6 => ?_) (fun c_6 => ?_)
    · exact absurd c_6 (by decide)
    · refine lv_aload_n F.x F.cd dX3_areConnected_9 rfl (lv_at hl 0 rfl) ?_
      refine lv_iload_n F.x F.cd dX3_areConnected_10 rfl (lv_at hl 1 rfl) ?_
      refine lv_iload_n F.x F.cd dX3_areConnected_11 rfl (lv_at hl 2 rfl) ?_
      refine lv_iconst (v := (nI 1)) F.x F.cd dX3_areConnected_12 (by decide) ?_
      refine s_callV (As := [.int (nI i1), .int (nI j1), .int (nI 1)]) (rest := []) (C := RX3) (T := TX3) (N := 18) (n := 3) F hW (k_X3_joins g l σ1 m A _ _ _ _ i1 j1 1 tw_2 hI (by omega) (by omega) (by omega)) (t0_2) rfl q2546 q2548 qs53 q79 q2549 rfl (by decide +kernel) rfl ⟨⟨Nat.le_of_ble_eq_true rfl, Nat.le_of_ble_eq_true rfl⟩, ⟨(Nat.le_of_ble_eq_true rfl), (Nat.le_of_ble_eq_true rfl)⟩⟩ (Nat.le_of_ble_eq_true rfl) hl.1 rfl dX3_areConnected_13 cX_no (fun r3 σ3 H locs hp3 hW => ?_)
      obtain ⟨rfl, hs3⟩ := hp3
      rw [hs3] at hW
      refine W.eq (g2 := F0 m_ 16 ls (.int (bI (conB (ar 0) 1 (-1) i1 j1)) :: [])) rfl ?_
      refine b_if_eq (b := (conB (ar 0) 1 (-1) i1 j1)) (tgt := 23) F dX3_areConnected_16 (by decide) (fun c_16 => ?_) (fun c_16 => ?_)
      · refine lv_iconst (v := (nI 0)) F.x F.cd dX3_areConnected_23 (by decide) ?_
        subst hQ
        exact s_reti (v := (nI 0)) F hW (by decide) (Or.inl ⟨i1, j1, hi1, hj1, rfl, rfl, by rw [c_16]; rfl, tw_2, fm_2⟩) ⟨(Nat.le_of_ble_eq_true rfl), (Nat.le_of_ble_eq_true rfl)⟩ dX3_areConnected_24
      · refine lv_iconst (v := (nI 1)) F.x F.cd dX3_areConnected_19 (by decide) ?_
        refine lv_goto (tgt := 24) F.x F.cd dX3_areConnected_20 (by decide) ?_
        subst hQ
        exact s_reti (v := (nI 1)) F hW (by decide) (Or.inl ⟨i1, j1, hi1, hj1, rfl, rfl, by rw [c_16]; rfl, tw_2, fm_2⟩) ⟨(Nat.le_of_ble_eq_true rfl), (Nat.le_of_ble_eq_true rfl)⟩ dX3_areConnected_24
  · have hz1 : (inN a ((ar 0) 0) && inN b ((ar 0) 0)) = false := hz1
    refine W.eq (g2 := F0 m_ 6 ls (.int (bI false) :: [])) rfl ?_
    obtain ⟨t0_4, -, ta0_4, ta1_4, ta2_4, ta3_4, ta4_4, ta5_4, ta6_4, ta7_4, -, -⟩ := id tv1
    have fm_4 : Fm σ σ1 m A := (Fm.refl).trans fv1
    have tw_4 : IsTw g σ1 m A (va_up iv 17 (nI 1)) wd ar rb := ⟨t0_4, tb0, ta0_4, ta1_4, ta2_4, ta3_4, ta4_4, ta5_4, ta6_4, ta7_4, tbb, tii⟩
    refine b_if_eq (b := false) (tgt := 23) F dX3_areConnected_6 (by decide) (fun c_6 => ?_) (fun c_6 => ?_)
    · refine lv_iconst (v := (nI 0)) F.x F.cd dX3_areConnected_23 (by decide) ?_
      subst hQ
      exact s_reti (v := (nI 0)) F hW (by decide) (Or.inr ⟨hz1, rfl, tw_4, fm_4⟩) ⟨(Nat.le_of_ble_eq_true rfl), (Nat.le_of_ble_eq_true rfl)⟩ dX3_areConnected_24
    · exact absurd c_6 (by decide)
set_option maxHeartbeats 4000000 in
theorem k_X3_groupCount (g : Gh) (l : Launch) (σ : Sto) (m : Nat) (A : Nat → Nat) (iv : Nat → Int32) (wd : Nat) (ar : Nat → Nat → Nat) (rb : Nat → Bool)  (hw : IsTw g σ m A iv wd ar rb) (hI : Inv (ar 0)) : Ct g l yX3_groupCount cX3_groupCount 4 (some .int) ({ frames := 3, cells := 0, slots := 0, locals := 70 } : Room) [.ref m] σ (fun r σ' => r = some (.int (nI (grN (ar 0) (ar 0 0)))) ∧ IsTw g σ' m A (va_up iv 17 (nI 0)) wd ar rb ∧ Fm σ σ' m A) (nox) := by
  refine Ct.body (by decide) (Nat.le_of_ble_eq_true rfl) ?_
  intro p_ e_ s_ m_ args_ below_ meth_ c_ ls H locs Q F hW hl hQ
  have hl : lv_has ls 4 [(0, .ref m)] := hl
  obtain ⟨t0, tb0, ta0, ta1, ta2, ta3, ta4, ta5, ta6, ta7, tbb, tii⟩ := id hw
  have hv0 := hI.1
  have hv1 := hI.2.1
  refine lv_aload_n F.x F.cd dX3_groupCount_0 rfl (lv_at hl 0 rfl) ?_
  refine lv_iconst (v := (nI 0)) F.x F.cd dX3_groupCount_1 (by decide) ?_
  refine s_put F hW (ci := 7) (C := RX3) (T := TX3) (N := 18) (v := .int (nI 0)) (ty := .int) (t0) (tb0) rfl in_X3 tyX3_ok nmX3 17 (by decide) q2296 (fun _ h9 => h9) rfl (by decide +kernel) rfl rfl (Nat.le_of_ble_eq_true rfl) dX3_groupCount_2 (fun H locs hW => ?_)
  obtain ⟨σ2, hσ2⟩ : ∃ z, z = sset σ m (.inr (7, [.ref (A 0), .ref (A 1), .ref (A 2), .int (iv 3), .ref (A 3), .int (iv 5), .ref (A 4), .ref (A 5), .int (iv 8), .ref (A 6), .int (iv 10), .int (iv 11), .ref wd, .ref (A 7), .int (iv 14), .int (iv 15), .int (iv 16), .int (nI 0)])) := ⟨_, rfl⟩
  have hW : Hl g σ2 H locs := by rw [hσ2]; exact hW
  have w2 : σ2 m = some (.inr (7, [.ref (A 0), .ref (A 1), .ref (A 2), .int (iv 3), .ref (A 3), .int (iv 5), .ref (A 4), .ref (A 5), .int (iv 8), .ref (A 6), .int (iv 10), .int (iv 11), .ref wd, .ref (A 7), .int (iv 14), .int (iv 15), .int (iv 16), .int (nI 0)])) := by rw [hσ2]; exact sset_eq
  have f3 : σ2 (A 0) = some (eI g 0 114 (fun x9 => nI ((ar 0) x9))) := by rw [hσ2, sset_ne (sto_ne t0 ta0 (by simp))]; exact ta0
  have f4 : σ2 (A 1) = some (eI g 0 114 (fun x9 => nI ((ar 1) x9))) := by rw [hσ2, sset_ne (sto_ne t0 ta1 (by simp))]; exact ta1
  have f5 : σ2 (A 2) = some (eI g 0 912 (fun x9 => nI ((ar 2) x9))) := by rw [hσ2, sset_ne (sto_ne t0 ta2 (by simp))]; exact ta2
  have f6 : σ2 (A 3) = some (eI g 0 114 (fun x9 => nI ((ar 3) x9))) := by rw [hσ2, sset_ne (sto_ne t0 ta3 (by simp))]; exact ta3
  have f7 : σ2 (A 4) = some (eI g 2 2048 (fun x9 => bI (rb x9))) := by rw [hσ2, sset_ne (sto_ne t0 ta4 (by simp))]; exact ta4
  have f8 : σ2 (A 5) = some (eI g 3 60 (fun x9 => nI ((ar 5) x9))) := by rw [hσ2, sset_ne (sto_ne t0 ta5 (by simp))]; exact ta5
  have f9 : σ2 (A 6) = some (eI g 3 60 (fun x9 => nI ((ar 6) x9))) := by rw [hσ2, sset_ne (sto_ne t0 ta6 (by simp))]; exact ta6
  have f10 : σ2 (A 7) = some (eI g 0 3 (fun x9 => nI ((ar 7) x9))) := by rw [hσ2, sset_ne (sto_ne t0 ta7 (by simp))]; exact ta7
  refine lv_iconst (v := (nI 0)) F.x F.cd dX3_groupCount_5 (by decide) ?_
  refine lv_istore_n (lv' := [(1, .int (nI 0)), (0, .ref m)]) F.x F.cd dX3_groupCount_6 rfl hl (by decide) rfl (fun ls hl => ?_)
  refine lv_iconst (v := (nI 0)) F.x F.cd dX3_groupCount_7 (by decide) ?_
  refine lv_istore_n (lv' := [(2, .int (nI 0)), (1, .int (nI 0)), (0, .ref m)]) F.x F.cd dX3_groupCount_8 rfl hl (by decide) rfl (fun ls hl => ?_)
  refine lv_iconst (v := (nI 0)) F.x F.cd dX3_groupCount_9 (by decide) ?_
  refine lv_istore_n (lv' := [(3, .int (nI 0)), (2, .int (nI 0)), (1, .int (nI 0)), (0, .ref m)]) F.x F.cd dX3_groupCount_10 rfl hl (by decide) rfl (fun ls hl => ?_)
  have loop11 : ∀ (n : Nat) (k : Nat) (x : Nat), k + n = ar 0 0 → Bs x (grS (ar 0) k) → ∀ (H : Heap) (locs : List Loc) (ls : Array Slot), Hl g σ2 H locs → lv_has ls 4 [(0, .ref m), (1, .int (nI x)), (2, .int (nI (grN (ar 0) k))), (3, .int (nI k))] → W p_ l e_ ({ frames := 3, cells := 0, slots := 0, locals := 70 } : Room) s_ m_ args_ below_ meth_ c_ H locs 0 0 Q (F0 m_ 11 ls ([])) := by
    intro n
    induction n with
    | zero =>
      intro k x hkn hG H locs ls hW hl
      refine lv_iload_n F.x F.cd dX3_groupCount_11 rfl (lv_at hl 3 rfl) ?_
      refine lv_aload_n F.x F.cd dX3_groupCount_12 rfl (lv_at hl 0 rfl) ?_
      refine s_get F hW (ci := 7) (C := RX3) (T := TX3) (N := 18) (v := .ref (A 0)) (w2) rfl in_X3 0 (by decide) q2279 (fun _ h9 => h9) rfl dX3_groupCount_13 ?_
      refine lv_iconst (v := (nI 0)) F.x F.cd dX3_groupCount_16 (by decide) ?_
      refine n_iald (i := 0) (n := 114) (f := (fun x9 => nI ((ar 0) x9))) (x := (nI (ar 0 0))) F hW (f3) (by omega) (by omega) (rfl) dX3_groupCount_17 ?_
      refine n_icmp_ge (a := k) (b := ar 0 0) (tgt := 52) F (by omega) (by omega) dX3_groupCount_18 (by decide) (fun c_18 => ?_) (fun c_18 => ?_)
      · refine lv_iload_n F.x F.cd dX3_groupCount_52 rfl (lv_at hl 2 rfl) ?_
        have tw11 : IsTw g σ2 m A (va_up iv 17 (nI 0)) wd ar rb := ⟨w2, tb0, f3, f4, f5, f6, f7, f8, f9, f10, tbb, tii⟩
        have fm11 : Fm σ σ2 m A := by rw [hσ2]; exact (Fm.refl).setM
        subst hQ
        exact s_reti (v := (nI (grN (ar 0) k))) F hW rfl (⟨by rw [show k = ar 0 0 by omega], tw11, fm11⟩) ⟨(Nat.le_of_ble_eq_true rfl), (Nat.le_of_ble_eq_true rfl)⟩ dX3_groupCount_53
      · exact absurd c_18 (by omega)
    | succ n ih11 =>
      intro k x hkn hG H locs ls hW hl
      refine lv_iload_n F.x F.cd dX3_groupCount_11 rfl (lv_at hl 3 rfl) ?_
      refine lv_aload_n F.x F.cd dX3_groupCount_12 rfl (lv_at hl 0 rfl) ?_
      refine s_get F hW (ci := 7) (C := RX3) (T := TX3) (N := 18) (v := .ref (A 0)) (w2) rfl in_X3 0 (by decide) q2279 (fun _ h9 => h9) rfl dX3_groupCount_13 ?_
      refine lv_iconst (v := (nI 0)) F.x F.cd dX3_groupCount_16 (by decide) ?_
      refine n_iald (i := 0) (n := 114) (f := (fun x9 => nI ((ar 0) x9))) (x := (nI (ar 0 0))) F hW (f3) (by omega) (by omega) (rfl) dX3_groupCount_17 ?_
      refine n_icmp_ge (a := k) (b := ar 0 0) (tgt := 52) F (by omega) (by omega) dX3_groupCount_18 (by decide) (fun c_18 => ?_) (fun c_18 => ?_)
      · exact absurd c_18 (by omega)
      · refine lv_iload_n F.x F.cd dX3_groupCount_21 rfl (lv_at hl 1 rfl) ?_
        refine lv_iload_n F.x F.cd dX3_groupCount_22 rfl (lv_at hl 3 rfl) ?_
        refine a_ishr (v := (nI x >>> (nI k &&& 31))) F (rfl) dX3_groupCount_23 ?_
        refine lv_iconst (v := (nI 1)) F.x F.cd dX3_groupCount_24 (by decide) ?_
        refine a_iand (v := (bI (grS (ar 0) k k))) F (hG.get (by omega)) dX3_groupCount_25 ?_
        refine lv_iconst (v := (nI 1)) F.x F.cd dX3_groupCount_26 (by decide) ?_
        refine lv_icmp_ne (x := (bI (grS (ar 0) k k))) (y := (nI 1)) (tgt := 33) F.x F.cd dX3_groupCount_27 (by decide) (fun c_27 => ?_) (fun c_27 => ?_)
        · refine lv_iload_n F.x F.cd dX3_groupCount_33 rfl (lv_at hl 1 rfl) ?_
          refine lv_aload_n F.x F.cd dX3_groupCount_34 rfl (lv_at hl 0 rfl) ?_
          refine lv_iload_n F.x F.cd dX3_groupCount_35 rfl (lv_at hl 3 rfl) ?_
          refine lv_iconst (v := (nI 1)) F.x F.cd dX3_groupCount_36 (by decide) ?_
          refine lv_iconst (v := (-1 : Int32)) F.x F.cd dX3_groupCount_37 (by decide) ?_
          have tw12 : IsTw g σ2 m A (va_up iv 17 (nI 0)) wd ar rb := ⟨w2, tb0, f3, f4, f5, f6, f7, f8, f9, f10, tbb, tii⟩
          have fm12 : Fm σ σ2 m A := by rw [hσ2]; exact (Fm.refl).setM
          refine s_callV (As := [.int (nI k), .int (nI 1), .int (-1 : Int32)]) (rest := [.int (nI x)]) (C := RX3) (T := TX3) (N := 18) (n := 3) F hW (k_X3_joined g l σ2 m A _ _ _ _ k 1 (-1 : Int32) tw12 hI (by omega) (by omega)) (w2) rfl q2550 q2552 qs54 q79 q2553 rfl (by decide +kernel) rfl ⟨⟨Nat.le_of_ble_eq_true rfl, Nat.le_of_ble_eq_true rfl⟩, ⟨(Nat.le_of_ble_eq_true rfl), (Nat.le_of_ble_eq_true rfl)⟩⟩ (Nat.le_of_ble_eq_true rfl) hl.1 rfl dX3_groupCount_38 cX_no (fun r13 σ13 H locs hp13 hW => ?_)
          obtain ⟨xx, rfl, hBx, hs13⟩ := hp13
          rw [hs13] at hW
          refine W.eq (g2 := F0 m_ 41 ls (.int (nI xx) :: .int (nI x) :: [])) rfl ?_
          refine a_ior (v := (nI (x ||| xx))) F (nI_or _ _) dX3_groupCount_41 ?_
          refine lv_istore_n (lv' := [(1, .int (nI (x ||| xx))), (0, .ref m), (2, .int (nI (grN (ar 0) k))), (3, .int (nI k))]) F.x F.cd dX3_groupCount_42 rfl hl (by decide) rfl (fun ls hl => ?_)
          refine lv_iinc (k := 2) (v := (nI (grN (ar 0) k + 1))) (lv' := [(2, .int (nI (grN (ar 0) k + 1))), (1, .int (nI (x ||| xx))), (0, .ref m), (3, .int (nI k))]) F.x F.cd dX3_groupCount_43 hl rfl (inc_nI (grN (ar 0) k) 1) (by decide) rfl (fun ls hl => ?_)
          have hg9 : ¬ grS (ar 0) k k = true := fun h9 => c_27 (bI_one.mpr h9)
          have hD : Bs (x ||| xx) (grS (ar 0) (k + 1)) := (hG.or2 hBx).congr (fun j _ => grS_s.symm)
          have hl : lv_has ls 4 [(2, .int (nI (grN (ar 0) (k + 1)))), (1, .int (nI (x ||| xx))), (0, .ref m), (3, .int (nI k))] := by rw [show grN (ar 0) (k + 1) = grN (ar 0) k + 1 by rw [grN, if_neg (show ¬ (List.range k).any (fun t => conB (ar 0) 1 (-1) t k) = true from hg9)]]; exact hl
          refine lv_iinc (k := 3) (v := (nI (k + 1))) (lv' := [(3, .int (nI (k + 1))), (2, .int (nI (grN (ar 0) (k + 1)))), (1, .int (nI (x ||| xx))), (0, .ref m)]) F.x F.cd dX3_groupCount_46 hl rfl (inc_nI k 1) (by decide) rfl (fun ls hl => ?_)
          refine lv_goto (tgt := 11) F.x F.cd dX3_groupCount_49 (by decide) ?_
          exact ih11 (k + 1) (x ||| xx) (by omega) (hD) H locs ls hW (lv_sub hl [3, 2, 1, 0] rfl)
        · refine lv_goto (tgt := 46) F.x F.cd dX3_groupCount_30 (by decide) ?_
          have hg9 : grS (ar 0) k k = true := bI_one.mp c_27
          have hD : Bs x (grS (ar 0) (k + 1)) := hG.congr (fun j _ => gr_skip hI (by omega) hg9)
          have hl : lv_has ls 4 [(0, .ref m), (1, .int (nI x)), (2, .int (nI (grN (ar 0) (k + 1)))), (3, .int (nI k))] := by rw [show grN (ar 0) (k + 1) = grN (ar 0) k by rw [grN, if_pos (show (List.range k).any (fun t => conB (ar 0) 1 (-1) t k) = true from hg9), Nat.add_zero]]; exact hl
          refine lv_iinc (k := 3) (v := (nI (k + 1))) (lv' := [(3, .int (nI (k + 1))), (0, .ref m), (1, .int (nI x)), (2, .int (nI (grN (ar 0) (k + 1))))]) F.x F.cd dX3_groupCount_46 hl rfl (inc_nI k 1) (by decide) rfl (fun ls hl => ?_)
          refine lv_goto (tgt := 11) F.x F.cd dX3_groupCount_49 (by decide) ?_
          exact ih11 (k + 1) x (by omega) (hD) H locs ls hW (lv_sub hl [1, 2, 3, 0] rfl)
  exact loop11 (ar 0 0) 0 0 (by omega) (⟨by decide, fun j hj => by rw [Nat.zero_testBit]; rfl⟩) H locs ls hW (lv_sub hl [3, 2, 1, 0] rfl)
set_option maxHeartbeats 4000000 in
theorem k_X3_groupCountByUnions (g : Gh) (l : Launch) (σ : Sto) (m : Nat) (A : Nat → Nat) (iv : Nat → Int32) (wd : Nat) (ar : Nat → Nat → Nat) (rb : Nat → Bool)  (hw : IsTw g σ m A iv wd ar rb) (hI : Inv (ar 0)) : Ct g l yX3_groupCountByUnions cX3_groupCountByUnions 1 (some .int) ({ frames := 4, cells := 0, slots := 0, locals := 93 } : Room) [.ref m] σ (fun r σ' => r = some (.int (nI (grN (ar 0) (ar 0 0)))) ∧ IsTw g σ' m A (va_up iv 17 (nI 0)) wd ar rb ∧ Fm σ σ' m A) (nox) := by
  refine Ct.body (by decide) (Nat.le_of_ble_eq_true rfl) ?_
  intro p_ e_ s_ m_ args_ below_ meth_ c_ ls H locs Q F hW hl hQ
  have hl : lv_has ls 1 [(0, .ref m)] := hl
  obtain ⟨t0, tb0, ta0, ta1, ta2, ta3, ta4, ta5, ta6, ta7, tbb, tii⟩ := id hw
  have hv0 := hI.1
  have hv1 := hI.2.1
  refine lv_aload_n F.x F.cd dX3_groupCountByUnions_0 rfl (lv_at hl 0 rfl) ?_
  refine s_callV (As := []) (rest := []) (C := RX3) (T := TX3) (N := 18) (n := 0) F hW (k_X3_groupCount g l σ m A _ _ _ _  hw hI) (t0) rfl q2562 q2555 q2556 q79 q2557 rfl (by decide +kernel) rfl ⟨⟨Nat.le_of_ble_eq_true rfl, Nat.le_of_ble_eq_true rfl⟩, ⟨(Nat.le_of_ble_eq_true rfl), (Nat.le_of_ble_eq_true rfl)⟩⟩ (Nat.le_of_ble_eq_true rfl) hl.1 rfl dX3_groupCountByUnions_1 cX_no (fun r1 σ1 H locs hp1 hW => ?_)
  obtain ⟨rfl, tv1, fv1⟩ := hp1
  refine W.eq (g2 := F0 m_ 4 ls (.int (nI (grN (ar 0) ((ar 0) 0))) :: [])) rfl ?_
  obtain ⟨t0_2, -, ta0_2, ta1_2, ta2_2, ta3_2, ta4_2, ta5_2, ta6_2, ta7_2, -, -⟩ := id tv1
  have fm_2 : Fm σ σ1 m A := (Fm.refl).trans fv1
  have tw_2 : IsTw g σ1 m A (va_up iv 17 (nI 0)) wd ar rb := ⟨t0_2, tb0, ta0_2, ta1_2, ta2_2, ta3_2, ta4_2, ta5_2, ta6_2, ta7_2, tbb, tii⟩
  subst hQ
  exact s_reti (v := (nI (grN (ar 0) ((ar 0) 0)))) F hW rfl (⟨rfl, tw_2, fm_2⟩) ⟨(Nat.le_of_ble_eq_true rfl), (Nat.le_of_ble_eq_true rfl)⟩ dX3_groupCountByUnions_4
set_option maxHeartbeats 4000000 in
theorem k_X3_bridges (g : Gh) (l : Launch) (σ : Sto) (m : Nat) (A : Nat → Nat) (iv : Nat → Int32) (wd : Nat) (ar : Nat → Nat → Nat) (rb : Nat → Bool) (q : Nat) (hw : IsTw g σ m A iv wd ar rb) (hI : Inv (ar 0)) (hq : q < ar 0 1) : Ct g l yX3_bridges cX3_bridges 2 (some .boolean) ({ frames := 3, cells := 0, slots := 0, locals := 70 } : Room) [.ref m, .int (nI q)] σ (fun r σ' => r = some (.int (bI (brB (ar 0) q))) ∧ σ' = σ) (nox) := by
  refine Ct.body (by decide) (Nat.le_of_ble_eq_true rfl) ?_
  intro p_ e_ s_ m_ args_ below_ meth_ c_ ls H locs Q F hW hl hQ
  have hl : lv_has ls 2 [(0, .ref m), (1, .int (nI q))] := hl
  obtain ⟨t0, tb0, ta0, ta1, ta2, ta3, ta4, ta5, ta6, ta7, tbb, tii⟩ := id hw
  have hv0 := hI.1
  have hv1 := hI.2.1
  obtain ⟨hqa, hqb, hqab, hqm, hqv, hqr, hqd⟩ := hI.pp hq
  refine lv_aload_n F.x F.cd dX3_bridges_0 rfl (lv_at hl 0 rfl) ?_
  refine lv_iload_n F.x F.cd dX3_bridges_1 rfl (lv_at hl 1 rfl) ?_
  refine s_callV (As := [.int (nI q)]) (rest := []) (C := RX3) (T := TX3) (N := 18) (n := 1) F hW (k_X3_goes g l σ m A _ _ _ _ q hw hI (by omega)) (t0) rfl q2434 q2436 qs48 q79 q2437 rfl (by decide +kernel) rfl ⟨⟨Nat.le_of_ble_eq_true rfl, Nat.le_of_ble_eq_true rfl⟩, ⟨(Nat.le_of_ble_eq_true rfl), (Nat.le_of_ble_eq_true rfl)⟩⟩ (Nat.le_of_ble_eq_true rfl) hl.1 rfl dX3_bridges_2 cX_no (fun r1 σ1 H locs hp1 hW => ?_)
  obtain ⟨rfl, hs1⟩ := hp1
  rw [hs1] at hW
  refine W.eq (g2 := F0 m_ 5 ls (.int (bI (opv (ar 0) q)) :: [])) rfl ?_
  refine b_if_eq (b := (opv (ar 0) q)) (tgt := 36) F dX3_bridges_5 (by decide) (fun c_5 => ?_) (fun c_5 => ?_)
  · refine lv_iconst (v := (nI 0)) F.x F.cd dX3_bridges_36 (by decide) ?_
    subst hQ
    exact s_reti (v := (nI 0)) F hW (by decide) (⟨by rw [show brB (ar 0) q = false by rw [brB, show opn (pV (ar 0) q) (pD (ar 0) q) = _ from c_5]; simp]; rfl, rfl⟩) ⟨(Nat.le_of_ble_eq_true rfl), (Nat.le_of_ble_eq_true rfl)⟩ dX3_bridges_37
  · refine lv_aload_n F.x F.cd dX3_bridges_8 rfl (lv_at hl 0 rfl) ?_
    refine lv_aload_n F.x F.cd dX3_bridges_9 rfl (lv_at hl 0 rfl) ?_
    refine lv_iload_n F.x F.cd dX3_bridges_10 rfl (lv_at hl 1 rfl) ?_
    refine lv_iconst (v := (nI 0)) F.x F.cd dX3_bridges_11 (by decide) ?_
    refine s_callV (As := [.int (nI q), .int (nI 0)]) (rest := [.ref m]) (C := RX3) (T := TX3) (N := 18) (n := 2) F hW (k_X3_pipe g l σ m A _ _ _ _ q 0 hw (by omega) (by omega)) (t0) rfl q2406 q2408 qs44 q79 q2409 rfl (by decide +kernel) rfl ⟨⟨Nat.le_of_ble_eq_true rfl, Nat.le_of_ble_eq_true rfl⟩, ⟨(Nat.le_of_ble_eq_true rfl), (Nat.le_of_ble_eq_true rfl)⟩⟩ (Nat.le_of_ble_eq_true rfl) hl.1 rfl dX3_bridges_12 cX_no (fun r2 σ2 H locs hp2 hW => ?_)
    obtain ⟨rfl, hs2⟩ := hp2
    rw [hs2] at hW
    refine W.eq (g2 := F0 m_ 15 ls (.int (nI (pA (ar 0) q)) :: .ref m :: [])) rfl ?_
    refine lv_iconst (v := (nI 1)) F.x F.cd dX3_bridges_15 (by decide) ?_
    refine lv_iload_n F.x F.cd dX3_bridges_16 rfl (lv_at hl 1 rfl) ?_
    refine s_callV (As := [.int (nI (pA (ar 0) q)), .int (nI 1), .int (nI q)]) (rest := []) (C := RX3) (T := TX3) (N := 18) (n := 3) F hW (k_X3_joined g l σ m A _ _ _ _ (pA (ar 0) q) 1 (nI q) hw hI (by omega) (by omega)) (t0) rfl q2550 q2552 qs54 q79 q2553 rfl (by decide +kernel) rfl ⟨⟨Nat.le_of_ble_eq_true rfl, Nat.le_of_ble_eq_true rfl⟩, ⟨(Nat.le_of_ble_eq_true rfl), (Nat.le_of_ble_eq_true rfl)⟩⟩ (Nat.le_of_ble_eq_true rfl) hl.1 rfl dX3_bridges_17 cX_no (fun r3 σ3 H locs hp3 hW => ?_)
    obtain ⟨xx, rfl, hBx, hs3⟩ := hp3
    rw [hs3] at hW
    refine W.eq (g2 := F0 m_ 20 ls (.int (nI xx) :: [])) rfl ?_
    refine lv_aload_n F.x F.cd dX3_bridges_20 rfl (lv_at hl 0 rfl) ?_
    refine lv_iload_n F.x F.cd dX3_bridges_21 rfl (lv_at hl 1 rfl) ?_
    refine lv_iconst (v := (nI 1)) F.x F.cd dX3_bridges_22 (by decide) ?_
    refine s_callV (As := [.int (nI q), .int (nI 1)]) (rest := [.int (nI xx)]) (C := RX3) (T := TX3) (N := 18) (n := 2) F hW (k_X3_pipe g l σ m A _ _ _ _ q 1 hw (by omega) (by omega)) (t0) rfl q2406 q2408 qs44 q79 q2409 rfl (by decide +kernel) rfl ⟨⟨Nat.le_of_ble_eq_true rfl, Nat.le_of_ble_eq_true rfl⟩, ⟨(Nat.le_of_ble_eq_true rfl), (Nat.le_of_ble_eq_true rfl)⟩⟩ (Nat.le_of_ble_eq_true rfl) hl.1 rfl dX3_bridges_23 cX_no (fun r4 σ4 H locs hp4 hW => ?_)
    obtain ⟨rfl, hs4⟩ := hp4
    rw [hs4] at hW
    refine W.eq (g2 := F0 m_ 26 ls (.int (nI (pB (ar 0) q)) :: .int (nI xx) :: [])) rfl ?_
    refine a_ishr (v := (nI xx >>> (nI (pB (ar 0) q) &&& 31))) F (rfl) dX3_bridges_26 ?_
    refine lv_iconst (v := (nI 1)) F.x F.cd dX3_bridges_27 (by decide) ?_
    refine a_iand (v := (bI (conB (ar 0) 1 (nI q) (pA (ar 0) q) (pB (ar 0) q)))) F (hBx.get (by omega)) dX3_bridges_28 ?_
    refine b_if_ne (b := (conB (ar 0) 1 (nI q) (pA (ar 0) q) (pB (ar 0) q))) (tgt := 36) F dX3_bridges_29 (by decide) (fun c_29 => ?_) (fun c_29 => ?_)
    · refine lv_iconst (v := (nI 0)) F.x F.cd dX3_bridges_36 (by decide) ?_
      subst hQ
      exact s_reti (v := (nI 0)) F hW (by decide) (⟨by rw [show brB (ar 0) q = false by rw [brB, show opn (pV (ar 0) q) (pD (ar 0) q) = _ from c_5]; simp [c_29]]; rfl, rfl⟩) ⟨(Nat.le_of_ble_eq_true rfl), (Nat.le_of_ble_eq_true rfl)⟩ dX3_bridges_37
    · refine lv_iconst (v := (nI 1)) F.x F.cd dX3_bridges_32 (by decide) ?_
      refine lv_goto (tgt := 37) F.x F.cd dX3_bridges_33 (by decide) ?_
      subst hQ
      exact s_reti (v := (nI 1)) F hW (by decide) (⟨by rw [show brB (ar 0) q = true by rw [brB, show opn (pV (ar 0) q) (pD (ar 0) q) = _ from c_5]; simp [c_29]]; rfl, rfl⟩) ⟨(Nat.le_of_ble_eq_true rfl), (Nat.le_of_ble_eq_true rfl)⟩ dX3_bridges_37
set_option maxHeartbeats 4000000 in
theorem k_X3_isBridge (g : Gh) (l : Launch) (σ : Sto) (m : Nat) (A : Nat → Nat) (iv : Nat → Int32) (wd : Nat) (ar : Nat → Nat → Nat) (rb : Nat → Bool) (x : Int32) (hw : IsTw g σ m A iv wd ar rb) (hI : Inv (ar 0)) : Ct g l yX3_isBridge cX3_isBridge 3 (some .boolean) ({ frames := 4, cells := 0, slots := 0, locals := 91 } : Room) [.ref m, .int x] σ (fun r σ' => (∃ i, i < ar 0 1 ∧ x = nI i ∧ r = some (.int (bI (brB (ar 0) i))) ∧ IsTw g σ' m A (va_up iv 17 (nI 0)) wd ar rb ∧ Fm σ σ' m A) ∨ (inN x (ar 0 1) = false ∧ r = some (.int (bI false)) ∧ IsTw g σ' m A (va_up iv 17 (nI 1)) wd ar rb ∧ Fm σ σ' m A)) (nox) := by
  refine Ct.body (by decide) (Nat.le_of_ble_eq_true rfl) ?_
  intro p_ e_ s_ m_ args_ below_ meth_ c_ ls H locs Q F hW hl hQ
  have hl : lv_has ls 3 [(0, .ref m), (1, .int x)] := hl
  obtain ⟨t0, tb0, ta0, ta1, ta2, ta3, ta4, ta5, ta6, ta7, tbb, tii⟩ := id hw
  have hv0 := hI.1
  have hv1 := hI.2.1
  refine lv_aload_n F.x F.cd dX3_isBridge_0 rfl (lv_at hl 0 rfl) ?_
  refine lv_iload_n F.x F.cd dX3_isBridge_1 rfl (lv_at hl 1 rfl) ?_
  refine lv_iconst (v := (nI 0)) F.x F.cd dX3_isBridge_2 (by decide) ?_
  refine s_callV (As := [.int x, .int (nI 0)]) (rest := []) (C := RX3) (T := TX3) (N := 18) (n := 2) F hW (k_X3_ofPipe g l σ m A _ _ _ _ x 0 hw hI (by omega)) (t0) rfl q2498 q2500 qs51 q79 q2501 rfl (by decide +kernel) rfl ⟨⟨Nat.le_of_ble_eq_true rfl, Nat.le_of_ble_eq_true rfl⟩, ⟨(Nat.le_of_ble_eq_true rfl), (Nat.le_of_ble_eq_true rfl)⟩⟩ (Nat.le_of_ble_eq_true rfl) hl.1 rfl dX3_isBridge_3 cX_no (fun r1 σ1 H locs hp1 hW => ?_)
  rcases hp1 with ⟨i1, hi1, rfl, rfl, tv1, fv1⟩ | ⟨hz1, rfl, tv1, fv1⟩
  · have hi1 : i1 < (ar 0) 1 := hi1
    refine W.eq (g2 := F0 m_ 6 ls (.int (nI (pA (ar 0) i1)) :: [])) rfl ?_
    obtain ⟨t0_2, -, ta0_2, ta1_2, ta2_2, ta3_2, ta4_2, ta5_2, ta6_2, ta7_2, -, -⟩ := id tv1
    have fm_2 : Fm σ σ1 m A := (Fm.refl).trans fv1
    have tw_2 : IsTw g σ1 m A (va_up iv 17 (nI 0)) wd ar rb := ⟨t0_2, tb0, ta0_2, ta1_2, ta2_2, ta3_2, ta4_2, ta5_2, ta6_2, ta7_2, tbb, tii⟩
    refine lv_istore_n (lv' := [(2, .int (nI (pA (ar 0) i1))), (0, .ref m), (1, .int (nI i1))]) F.x F.cd dX3_isBridge_6 rfl hl (by decide) rfl (fun ls hl => ?_)
    have hqq := hI.pp hi1
    obtain ⟨hqa, hqb, hqab, hqm, hqv, hqr, hqd⟩ := hqq
    refine lv_aload_n F.x F.cd dX3_isBridge_7 rfl (lv_at hl 1 rfl) ?_
    refine s_get F hW (ci := 7) (C := RX3) (T := TX3) (N := 18) (v := .int (nI 0)) (t0_2) rfl in_X3 17 (by decide) q2296 (fun _ h9 => h9) rfl dX3_isBridge_8 ?_
    refine n_if_ne (a := 0) (tgt := 30) F (by omega) dX3_isBridge_11 (by decide) (fun c_11 => absurd (by decide) c_11) (fun c_11 => ?_)
    refine lv_iload_n F.x F.cd dX3_isBridge_14 rfl (lv_at hl 0 rfl) ?_
    refine n_if_lt (a := pA (ar 0) i1) (tgt := 30) F (by omega) dX3_isBridge_15 (by decide) ?_
    refine lv_aload_n F.x F.cd dX3_isBridge_18 rfl (lv_at hl 1 rfl) ?_
    refine lv_iload_n F.x F.cd dX3_isBridge_19 rfl (lv_at hl 2 rfl) ?_
    refine s_callV (As := [.int (nI i1)]) (rest := []) (C := RX3) (T := TX3) (N := 18) (n := 1) F hW (k_X3_bridges g l σ1 m A _ _ _ _ i1 tw_2 hI (by omega)) (t0_2) rfl q2567 q2569 qs55 q79 q2570 rfl (by decide +kernel) rfl ⟨⟨Nat.le_of_ble_eq_true rfl, Nat.le_of_ble_eq_true rfl⟩, ⟨(Nat.le_of_ble_eq_true rfl), (Nat.le_of_ble_eq_true rfl)⟩⟩ (Nat.le_of_ble_eq_true rfl) hl.1 rfl dX3_isBridge_20 cX_no (fun r3 σ3 H locs hp3 hW => ?_)
    obtain ⟨rfl, hs3⟩ := hp3
    rw [hs3] at hW
    refine W.eq (g2 := F0 m_ 23 ls (.int (bI (brB (ar 0) i1)) :: [])) rfl ?_
    refine b_if_eq (b := (brB (ar 0) i1)) (tgt := 30) F dX3_isBridge_23 (by decide) (fun c_23 => ?_) (fun c_23 => ?_)
    · refine lv_iconst (v := (nI 0)) F.x F.cd dX3_isBridge_30 (by decide) ?_
      subst hQ
      exact s_reti (v := (nI 0)) F hW (by decide) (Or.inl ⟨i1, hi1, rfl, by rw [c_23]; rfl, tw_2, fm_2⟩) ⟨(Nat.le_of_ble_eq_true rfl), (Nat.le_of_ble_eq_true rfl)⟩ dX3_isBridge_31
    · refine lv_iconst (v := (nI 1)) F.x F.cd dX3_isBridge_26 (by decide) ?_
      refine lv_goto (tgt := 31) F.x F.cd dX3_isBridge_27 (by decide) ?_
      subst hQ
      exact s_reti (v := (nI 1)) F hW (by decide) (Or.inl ⟨i1, hi1, rfl, by rw [c_23]; rfl, tw_2, fm_2⟩) ⟨(Nat.le_of_ble_eq_true rfl), (Nat.le_of_ble_eq_true rfl)⟩ dX3_isBridge_31
  · have hz1 : inN x ((ar 0) 1) = false := hz1
    refine W.eq (g2 := F0 m_ 6 ls (.int (nI 0) :: [])) rfl ?_
    obtain ⟨t0_4, -, ta0_4, ta1_4, ta2_4, ta3_4, ta4_4, ta5_4, ta6_4, ta7_4, -, -⟩ := id tv1
    have fm_4 : Fm σ σ1 m A := (Fm.refl).trans fv1
    have tw_4 : IsTw g σ1 m A (va_up iv 17 (nI 1)) wd ar rb := ⟨t0_4, tb0, ta0_4, ta1_4, ta2_4, ta3_4, ta4_4, ta5_4, ta6_4, ta7_4, tbb, tii⟩
    refine lv_istore_n (lv' := [(2, .int (nI 0)), (0, .ref m), (1, .int x)]) F.x F.cd dX3_isBridge_6 rfl hl (by decide) rfl (fun ls hl => ?_)
    refine lv_aload_n F.x F.cd dX3_isBridge_7 rfl (lv_at hl 1 rfl) ?_
    refine s_get F hW (ci := 7) (C := RX3) (T := TX3) (N := 18) (v := .int (nI 1)) (t0_4) rfl in_X3 17 (by decide) q2296 (fun _ h9 => h9) rfl dX3_isBridge_8 ?_
    refine n_if_ne (a := 1) (tgt := 30) F (by omega) dX3_isBridge_11 (by decide) (fun c_11 => ?_) (fun c_11 => absurd c_11 (by decide))
    refine lv_iconst (v := (nI 0)) F.x F.cd dX3_isBridge_30 (by decide) ?_
    subst hQ
    exact s_reti (v := (nI 0)) F hW (by decide) (Or.inr ⟨hz1, rfl, tw_4, fm_4⟩) ⟨(Nat.le_of_ble_eq_true rfl), (Nat.le_of_ble_eq_true rfl)⟩ dX3_isBridge_31
set_option maxHeartbeats 4000000 in
theorem k_X3_bridgeCount (g : Gh) (l : Launch) (σ : Sto) (m : Nat) (A : Nat → Nat) (iv : Nat → Int32) (wd : Nat) (ar : Nat → Nat → Nat) (rb : Nat → Bool)  (hw : IsTw g σ m A iv wd ar rb) (hI : Inv (ar 0)) : Ct g l yX3_bridgeCount cX3_bridgeCount 3 (some .int) ({ frames := 4, cells := 0, slots := 0, locals := 91 } : Room) [.ref m] σ (fun r σ' => r = some (.int (nI (brN (ar 0) (ar 0 1)))) ∧ IsTw g σ' m A (va_up iv 17 (nI 0)) wd ar rb ∧ Fm σ σ' m A) (nox) := by
  refine Ct.body (by decide) (Nat.le_of_ble_eq_true rfl) ?_
  intro p_ e_ s_ m_ args_ below_ meth_ c_ ls H locs Q F hW hl hQ
  have hl : lv_has ls 3 [(0, .ref m)] := hl
  obtain ⟨t0, tb0, ta0, ta1, ta2, ta3, ta4, ta5, ta6, ta7, tbb, tii⟩ := id hw
  have hv0 := hI.1
  have hv1 := hI.2.1
  refine lv_aload_n F.x F.cd dX3_bridgeCount_0 rfl (lv_at hl 0 rfl) ?_
  refine lv_iconst (v := (nI 0)) F.x F.cd dX3_bridgeCount_1 (by decide) ?_
  refine s_put F hW (ci := 7) (C := RX3) (T := TX3) (N := 18) (v := .int (nI 0)) (ty := .int) (t0) (tb0) rfl in_X3 tyX3_ok nmX3 17 (by decide) q2296 (fun _ h9 => h9) rfl (by decide +kernel) rfl rfl (Nat.le_of_ble_eq_true rfl) dX3_bridgeCount_2 (fun H locs hW => ?_)
  obtain ⟨σ2, hσ2⟩ : ∃ z, z = sset σ m (.inr (7, [.ref (A 0), .ref (A 1), .ref (A 2), .int (iv 3), .ref (A 3), .int (iv 5), .ref (A 4), .ref (A 5), .int (iv 8), .ref (A 6), .int (iv 10), .int (iv 11), .ref wd, .ref (A 7), .int (iv 14), .int (iv 15), .int (iv 16), .int (nI 0)])) := ⟨_, rfl⟩
  have hW : Hl g σ2 H locs := by rw [hσ2]; exact hW
  have w2 : σ2 m = some (.inr (7, [.ref (A 0), .ref (A 1), .ref (A 2), .int (iv 3), .ref (A 3), .int (iv 5), .ref (A 4), .ref (A 5), .int (iv 8), .ref (A 6), .int (iv 10), .int (iv 11), .ref wd, .ref (A 7), .int (iv 14), .int (iv 15), .int (iv 16), .int (nI 0)])) := by rw [hσ2]; exact sset_eq
  have f3 : σ2 (A 0) = some (eI g 0 114 (fun x9 => nI ((ar 0) x9))) := by rw [hσ2, sset_ne (sto_ne t0 ta0 (by simp))]; exact ta0
  have f4 : σ2 (A 1) = some (eI g 0 114 (fun x9 => nI ((ar 1) x9))) := by rw [hσ2, sset_ne (sto_ne t0 ta1 (by simp))]; exact ta1
  have f5 : σ2 (A 2) = some (eI g 0 912 (fun x9 => nI ((ar 2) x9))) := by rw [hσ2, sset_ne (sto_ne t0 ta2 (by simp))]; exact ta2
  have f6 : σ2 (A 3) = some (eI g 0 114 (fun x9 => nI ((ar 3) x9))) := by rw [hσ2, sset_ne (sto_ne t0 ta3 (by simp))]; exact ta3
  have f7 : σ2 (A 4) = some (eI g 2 2048 (fun x9 => bI (rb x9))) := by rw [hσ2, sset_ne (sto_ne t0 ta4 (by simp))]; exact ta4
  have f8 : σ2 (A 5) = some (eI g 3 60 (fun x9 => nI ((ar 5) x9))) := by rw [hσ2, sset_ne (sto_ne t0 ta5 (by simp))]; exact ta5
  have f9 : σ2 (A 6) = some (eI g 3 60 (fun x9 => nI ((ar 6) x9))) := by rw [hσ2, sset_ne (sto_ne t0 ta6 (by simp))]; exact ta6
  have f10 : σ2 (A 7) = some (eI g 0 3 (fun x9 => nI ((ar 7) x9))) := by rw [hσ2, sset_ne (sto_ne t0 ta7 (by simp))]; exact ta7
  refine lv_iconst (v := (nI 0)) F.x F.cd dX3_bridgeCount_5 (by decide) ?_
  refine lv_istore_n (lv' := [(1, .int (nI 0)), (0, .ref m)]) F.x F.cd dX3_bridgeCount_6 rfl hl (by decide) rfl (fun ls hl => ?_)
  refine lv_iconst (v := (nI 0)) F.x F.cd dX3_bridgeCount_7 (by decide) ?_
  refine lv_istore_n (lv' := [(2, .int (nI 0)), (1, .int (nI 0)), (0, .ref m)]) F.x F.cd dX3_bridgeCount_8 rfl hl (by decide) rfl (fun ls hl => ?_)
  have loop9 : ∀ (n : Nat) (k : Nat), k + n = ar 0 1 → ∀ (H : Heap) (locs : List Loc) (ls : Array Slot), Hl g σ2 H locs → lv_has ls 3 [(0, .ref m), (1, .int (nI (brN (ar 0) k))), (2, .int (nI k))] → W p_ l e_ ({ frames := 4, cells := 0, slots := 0, locals := 91 } : Room) s_ m_ args_ below_ meth_ c_ H locs 0 0 Q (F0 m_ 9 ls ([])) := by
    intro n
    induction n with
    | zero =>
      intro k hkn  H locs ls hW hl
      refine lv_iload_n F.x F.cd dX3_bridgeCount_9 rfl (lv_at hl 2 rfl) ?_
      refine lv_aload_n F.x F.cd dX3_bridgeCount_10 rfl (lv_at hl 0 rfl) ?_
      refine s_get F hW (ci := 7) (C := RX3) (T := TX3) (N := 18) (v := .ref (A 0)) (w2) rfl in_X3 0 (by decide) q2279 (fun _ h9 => h9) rfl dX3_bridgeCount_11 ?_
      refine lv_iconst (v := (nI 1)) F.x F.cd dX3_bridgeCount_14 (by decide) ?_
      refine n_iald (i := 1) (n := 114) (f := (fun x9 => nI ((ar 0) x9))) (x := (nI (ar 0 1))) F hW (f3) (by omega) (by omega) (rfl) dX3_bridgeCount_15 ?_
      refine n_icmp_ge (a := k) (b := ar 0 1) (tgt := 36) F (by omega) (by omega) dX3_bridgeCount_16 (by decide) (fun c_16 => ?_) (fun c_16 => ?_)
      · refine lv_iload_n F.x F.cd dX3_bridgeCount_36 rfl (lv_at hl 1 rfl) ?_
        have tw11 : IsTw g σ2 m A (va_up iv 17 (nI 0)) wd ar rb := ⟨w2, tb0, f3, f4, f5, f6, f7, f8, f9, f10, tbb, tii⟩
        have fm11 : Fm σ σ2 m A := by rw [hσ2]; exact (Fm.refl).setM
        subst hQ
        exact s_reti (v := (nI (brN (ar 0) k))) F hW rfl (⟨by rw [show k = ar 0 1 by omega], tw11, fm11⟩) ⟨(Nat.le_of_ble_eq_true rfl), (Nat.le_of_ble_eq_true rfl)⟩ dX3_bridgeCount_37
      · exact absurd c_16 (by omega)
    | succ n ih9 =>
      intro k hkn  H locs ls hW hl
      refine lv_iload_n F.x F.cd dX3_bridgeCount_9 rfl (lv_at hl 2 rfl) ?_
      refine lv_aload_n F.x F.cd dX3_bridgeCount_10 rfl (lv_at hl 0 rfl) ?_
      refine s_get F hW (ci := 7) (C := RX3) (T := TX3) (N := 18) (v := .ref (A 0)) (w2) rfl in_X3 0 (by decide) q2279 (fun _ h9 => h9) rfl dX3_bridgeCount_11 ?_
      refine lv_iconst (v := (nI 1)) F.x F.cd dX3_bridgeCount_14 (by decide) ?_
      refine n_iald (i := 1) (n := 114) (f := (fun x9 => nI ((ar 0) x9))) (x := (nI (ar 0 1))) F hW (f3) (by omega) (by omega) (rfl) dX3_bridgeCount_15 ?_
      refine n_icmp_ge (a := k) (b := ar 0 1) (tgt := 36) F (by omega) (by omega) dX3_bridgeCount_16 (by decide) (fun c_16 => ?_) (fun c_16 => ?_)
      · exact absurd c_16 (by omega)
      · refine lv_aload_n F.x F.cd dX3_bridgeCount_19 rfl (lv_at hl 0 rfl) ?_
        refine lv_iload_n F.x F.cd dX3_bridgeCount_20 rfl (lv_at hl 2 rfl) ?_
        have tw12 : IsTw g σ2 m A (va_up iv 17 (nI 0)) wd ar rb := ⟨w2, tb0, f3, f4, f5, f6, f7, f8, f9, f10, tbb, tii⟩
        have fm12 : Fm σ σ2 m A := by rw [hσ2]; exact (Fm.refl).setM
        refine s_callV (As := [.int (nI k)]) (rest := []) (C := RX3) (T := TX3) (N := 18) (n := 1) F hW (k_X3_bridges g l σ2 m A _ _ _ _ k tw12 hI (by omega)) (w2) rfl q2567 q2569 qs55 q79 q2570 rfl (by decide +kernel) rfl ⟨⟨Nat.le_of_ble_eq_true rfl, Nat.le_of_ble_eq_true rfl⟩, ⟨(Nat.le_of_ble_eq_true rfl), (Nat.le_of_ble_eq_true rfl)⟩⟩ (Nat.le_of_ble_eq_true rfl) hl.1 rfl dX3_bridgeCount_21 cX_no (fun r13 σ13 H locs hp13 hW => ?_)
        obtain ⟨rfl, hs13⟩ := hp13
        rw [hs13] at hW
        refine W.eq (g2 := F0 m_ 24 ls (.int (bI (brB (ar 0) k)) :: [])) rfl ?_
        refine b_if_eq (b := (brB (ar 0) k)) (tgt := 30) F dX3_bridgeCount_24 (by decide) (fun c_24 => ?_) (fun c_24 => ?_)
        · have hl : lv_has ls 3 [(0, .ref m), (1, .int (nI (brN (ar 0) (k + 1)))), (2, .int (nI k))] := by rw [show brN (ar 0) (k + 1) = brN (ar 0) k by rw [brN, if_neg (by rw [c_24]; decide), Nat.add_zero]]; exact hl
          refine lv_iinc (k := 2) (v := (nI (k + 1))) (lv' := [(2, .int (nI (k + 1))), (0, .ref m), (1, .int (nI (brN (ar 0) (k + 1))))]) F.x F.cd dX3_bridgeCount_30 hl rfl (inc_nI k 1) (by decide) rfl (fun ls hl => ?_)
          refine lv_goto (tgt := 9) F.x F.cd dX3_bridgeCount_33 (by decide) ?_
          exact ih9 (k + 1) (by omega)  H locs ls hW (lv_sub hl [1, 2, 0] rfl)
        · refine lv_iinc (k := 1) (v := (nI (brN (ar 0) k + 1))) (lv' := [(1, .int (nI (brN (ar 0) k + 1))), (0, .ref m), (2, .int (nI k))]) F.x F.cd dX3_bridgeCount_27 hl rfl (inc_nI (brN (ar 0) k) 1) (by decide) rfl (fun ls hl => ?_)
          have hl : lv_has ls 3 [(1, .int (nI (brN (ar 0) (k + 1)))), (0, .ref m), (2, .int (nI k))] := by rw [show brN (ar 0) (k + 1) = brN (ar 0) k + 1 by rw [brN, if_pos c_24]]; exact hl
          refine lv_iinc (k := 2) (v := (nI (k + 1))) (lv' := [(2, .int (nI (k + 1))), (1, .int (nI (brN (ar 0) (k + 1)))), (0, .ref m)]) F.x F.cd dX3_bridgeCount_30 hl rfl (inc_nI k 1) (by decide) rfl (fun ls hl => ?_)
          refine lv_goto (tgt := 9) F.x F.cd dX3_bridgeCount_33 (by decide) ?_
          exact ih9 (k + 1) (by omega)  H locs ls hW (lv_sub hl [2, 1, 0] rfl)
  exact loop9 (ar 0 1) 0 (by omega)  H locs ls hW (lv_sub hl [2, 1, 0] rfl)
set_option maxHeartbeats 4000000 in
theorem k_X3_bridgeCountByLeavingOut (g : Gh) (l : Launch) (σ : Sto) (m : Nat) (A : Nat → Nat) (iv : Nat → Int32) (wd : Nat) (ar : Nat → Nat → Nat) (rb : Nat → Bool)  (hw : IsTw g σ m A iv wd ar rb) (hI : Inv (ar 0)) : Ct g l yX3_bridgeCountByLeavingOut cX3_bridgeCountByLeavingOut 1 (some .int) ({ frames := 5, cells := 0, slots := 0, locals := 113 } : Room) [.ref m] σ (fun r σ' => r = some (.int (nI (brN (ar 0) (ar 0 1)))) ∧ IsTw g σ' m A (va_up iv 17 (nI 0)) wd ar rb ∧ Fm σ σ' m A) (nox) := by
  refine Ct.body (by decide) (Nat.le_of_ble_eq_true rfl) ?_
  intro p_ e_ s_ m_ args_ below_ meth_ c_ ls H locs Q F hW hl hQ
  have hl : lv_has ls 1 [(0, .ref m)] := hl
  obtain ⟨t0, tb0, ta0, ta1, ta2, ta3, ta4, ta5, ta6, ta7, tbb, tii⟩ := id hw
  have hv0 := hI.1
  have hv1 := hI.2.1
  refine lv_aload_n F.x F.cd dX3_bridgeCountByLeavingOut_0 rfl (lv_at hl 0 rfl) ?_
  refine s_callV (As := []) (rest := []) (C := RX3) (T := TX3) (N := 18) (n := 0) F hW (k_X3_bridgeCount g l σ m A _ _ _ _  hw hI) (t0) rfl q2579 q2572 q2573 q79 q2574 rfl (by decide +kernel) rfl ⟨⟨Nat.le_of_ble_eq_true rfl, Nat.le_of_ble_eq_true rfl⟩, ⟨(Nat.le_of_ble_eq_true rfl), (Nat.le_of_ble_eq_true rfl)⟩⟩ (Nat.le_of_ble_eq_true rfl) hl.1 rfl dX3_bridgeCountByLeavingOut_1 cX_no (fun r1 σ1 H locs hp1 hW => ?_)
  obtain ⟨rfl, tv1, fv1⟩ := hp1
  refine W.eq (g2 := F0 m_ 4 ls (.int (nI (brN (ar 0) ((ar 0) 1))) :: [])) rfl ?_
  obtain ⟨t0_2, -, ta0_2, ta1_2, ta2_2, ta3_2, ta4_2, ta5_2, ta6_2, ta7_2, -, -⟩ := id tv1
  have fm_2 : Fm σ σ1 m A := (Fm.refl).trans fv1
  have tw_2 : IsTw g σ1 m A (va_up iv 17 (nI 0)) wd ar rb := ⟨t0_2, tb0, ta0_2, ta1_2, ta2_2, ta3_2, ta4_2, ta5_2, ta6_2, ta7_2, tbb, tii⟩
  subst hQ
  exact s_reti (v := (nI (brN (ar 0) ((ar 0) 1)))) F hW rfl (⟨rfl, tw_2, fm_2⟩) ⟨(Nat.le_of_ble_eq_true rfl), (Nat.le_of_ble_eq_true rfl)⟩ dX3_bridgeCountByLeavingOut_4
set_option maxHeartbeats 4000000 in
theorem k_X3_width (g : Gh) (l : Launch) (σ : Sto) (m : Nat) (A : Nat → Nat) (iv : Nat → Int32) (wd : Nat) (ar : Nat → Nat → Nat) (rb : Nat → Bool) (a b : Int32) (hw : IsTw g σ m A iv wd ar rb) (hI : Inv (ar 0)) : Ct g l yX3_width cX3_width 4 (some .int) ({ frames := 4, cells := 0, slots := 0, locals := 93 } : Room) [.ref m, .int a, .int b] σ (fun r σ' => (∃ i j, i < ar 0 0 ∧ j < ar 0 0 ∧ a = nI i ∧ b = nI j ∧ r = some (.int (nI (wid (ar 0) i j))) ∧ IsTw g σ' m A (va_up iv 17 (nI 0)) wd ar rb ∧ Fm σ σ' m A) ∨ ((inN a (ar 0 0) && inN b (ar 0 0)) = false ∧ r = some (.int (nI 0)) ∧ IsTw g σ' m A (va_up iv 17 (nI 1)) wd ar rb ∧ Fm σ σ' m A)) (nox) := by
  refine Ct.body (by decide) (Nat.le_of_ble_eq_true rfl) ?_
  intro p_ e_ s_ m_ args_ below_ meth_ c_ ls H locs Q F hW hl hQ
  have hl : lv_has ls 4 [(0, .ref m), (1, .int a), (2, .int b)] := hl
  obtain ⟨t0, tb0, ta0, ta1, ta2, ta3, ta4, ta5, ta6, ta7, tbb, tii⟩ := id hw
  have hv0 := hI.1
  have hv1 := hI.2.1
  refine lv_aload_n F.x F.cd dX3_width_0 rfl (lv_at hl 0 rfl) ?_
  refine lv_iload_n F.x F.cd dX3_width_1 rfl (lv_at hl 1 rfl) ?_
  refine lv_iload_n F.x F.cd dX3_width_2 rfl (lv_at hl 2 rfl) ?_
  refine s_callV (As := [.int a, .int b]) (rest := []) (C := RX3) (T := TX3) (N := 18) (n := 2) F hW (k_X3_areTanks g l σ m A _ _ _ _ a b hw hI) (t0) rfl q2542 q2544 qs52 q79 q2545 rfl (by decide +kernel) rfl ⟨⟨Nat.le_of_ble_eq_true rfl, Nat.le_of_ble_eq_true rfl⟩, ⟨(Nat.le_of_ble_eq_true rfl), (Nat.le_of_ble_eq_true rfl)⟩⟩ (Nat.le_of_ble_eq_true rfl) hl.1 rfl dX3_width_3 cX_no (fun r1 σ1 H locs hp1 hW => ?_)
  rcases hp1 with ⟨i1, j1, hi1, hj1, rfl, rfl, rfl, tv1, fv1⟩ | ⟨hz1, rfl, tv1, fv1⟩
  · have hi1 : i1 < (ar 0) 0 := hi1
    have hj1 : j1 < (ar 0) 0 := hj1
    refine W.eq (g2 := F0 m_ 6 ls (.int (bI true) :: [])) rfl ?_
    obtain ⟨t0_2, -, ta0_2, ta1_2, ta2_2, ta3_2, ta4_2, ta5_2, ta6_2, ta7_2, -, -⟩ := id tv1
    have fm_2 : Fm σ σ1 m A := (Fm.refl).trans fv1
    have tw_2 : IsTw g σ1 m A (va_up iv 17 (nI 0)) wd ar rb := ⟨t0_2, tb0, ta0_2, ta1_2, ta2_2, ta3_2, ta4_2, ta5_2, ta6_2, ta7_2, tbb, tii⟩
    refine b_if_ne (b := true) (tgt := 11) F dX3_width_6 (by decide) (fun c_6 => ?_) (fun c_6 => ?_)
    · have hwd : wb (ar 0) i1 j1 4 = wb (ar 0) i1 j1 4 := rfl
      refine lv_iconst (v := (nI 4)) F.x F.cd dX3_width_11 (by decide) ?_
      refine lv_istore_n (lv' := [(3, .int (nI 4)), (0, .ref m), (1, .int (nI i1)), (2, .int (nI j1))]) F.x F.cd dX3_width_12 rfl hl (by decide) rfl (fun ls hl => ?_)
      refine lv_iload_n F.x F.cd dX3_width_13 rfl (lv_at hl 0 rfl) ?_
      refine n_if_le (a := 4) (tgt := 33) F (by omega) dX3_width_14 (by decide) (fun c_14 => absurd c_14 (by decide)) (fun c_14 => ?_)
      refine lv_aload_n F.x F.cd dX3_width_17 rfl (lv_at hl 1 rfl) ?_
      refine lv_iload_n F.x F.cd dX3_width_18 rfl (lv_at hl 2 rfl) ?_
      refine lv_iload_n F.x F.cd dX3_width_19 rfl (lv_at hl 3 rfl) ?_
      refine lv_iload_n F.x F.cd dX3_width_20 rfl (lv_at hl 0 rfl) ?_
      refine s_callV (As := [.int (nI i1), .int (nI j1), .int (nI 4)]) (rest := []) (C := RX3) (T := TX3) (N := 18) (n := 3) F hW (k_X3_joins g l σ1 m A _ _ _ _ i1 j1 4 tw_2 hI (by omega) (by omega) (by omega)) (t0_2) rfl q2546 q2548 qs53 q79 q2549 rfl (by decide +kernel) rfl ⟨⟨Nat.le_of_ble_eq_true rfl, Nat.le_of_ble_eq_true rfl⟩, ⟨(Nat.le_of_ble_eq_true rfl), (Nat.le_of_ble_eq_true rfl)⟩⟩ (Nat.le_of_ble_eq_true rfl) hl.1 rfl dX3_width_21 cX_no (fun r3 σ3 H locs hp3 hW => ?_)
      obtain ⟨rfl, hs3⟩ := hp3
      rw [hs3] at hW
      refine W.eq (g2 := F0 m_ 24 ls (.int (bI (conB (ar 0) 4 (-1) i1 j1)) :: [])) rfl ?_
      refine b_if_ne (b := (conB (ar 0) 4 (-1) i1 j1)) (tgt := 33) F dX3_width_24 (by decide) (fun c_24 => ?_) (fun c_24 => ?_)
      · refine lv_iload_n F.x F.cd dX3_width_33 rfl (lv_at hl 0 rfl) ?_
        subst hQ
        exact s_reti (v := (nI 4)) F hW rfl (Or.inl ⟨i1, j1, hi1, hj1, rfl, rfl, by rw [wid, hwd, wb_t (by decide) c_24], tw_2, fm_2⟩) ⟨(Nat.le_of_ble_eq_true rfl), (Nat.le_of_ble_eq_true rfl)⟩ dX3_width_34
      · have hwd : wb (ar 0) i1 j1 4 = wb (ar 0) i1 j1 3 := by rw [hwd, wb_f (by decide) c_24]
        refine lv_iinc (k := 0) (v := (nI 3)) (lv' := [(3, .int (nI 3)), (0, .ref m), (1, .int (nI i1)), (2, .int (nI j1))]) F.x F.cd dX3_width_27 hl rfl (by decide) (by decide) rfl (fun ls hl => ?_)
        refine lv_goto (tgt := 13) F.x F.cd dX3_width_30 (by decide) ?_
        refine lv_iload_n F.x F.cd dX3_width_13 rfl (lv_at hl 0 rfl) ?_
        refine n_if_le (a := 3) (tgt := 33) F (by omega) dX3_width_14 (by decide) (fun c_14 => absurd c_14 (by decide)) (fun c_14 => ?_)
        refine lv_aload_n F.x F.cd dX3_width_17 rfl (lv_at hl 1 rfl) ?_
        refine lv_iload_n F.x F.cd dX3_width_18 rfl (lv_at hl 2 rfl) ?_
        refine lv_iload_n F.x F.cd dX3_width_19 rfl (lv_at hl 3 rfl) ?_
        refine lv_iload_n F.x F.cd dX3_width_20 rfl (lv_at hl 0 rfl) ?_
        refine s_callV (As := [.int (nI i1), .int (nI j1), .int (nI 3)]) (rest := []) (C := RX3) (T := TX3) (N := 18) (n := 3) F hW (k_X3_joins g l σ1 m A _ _ _ _ i1 j1 3 tw_2 hI (by omega) (by omega) (by omega)) (t0_2) rfl q2546 q2548 qs53 q79 q2549 rfl (by decide +kernel) rfl ⟨⟨Nat.le_of_ble_eq_true rfl, Nat.le_of_ble_eq_true rfl⟩, ⟨(Nat.le_of_ble_eq_true rfl), (Nat.le_of_ble_eq_true rfl)⟩⟩ (Nat.le_of_ble_eq_true rfl) hl.1 rfl dX3_width_21 cX_no (fun r4 σ4 H locs hp4 hW => ?_)
        obtain ⟨rfl, hs4⟩ := hp4
        rw [hs4] at hW
        refine W.eq (g2 := F0 m_ 24 ls (.int (bI (conB (ar 0) 3 (-1) i1 j1)) :: [])) rfl ?_
        refine b_if_ne (b := (conB (ar 0) 3 (-1) i1 j1)) (tgt := 33) F dX3_width_24 (by decide) (fun c_24 => ?_) (fun c_24 => ?_)
        · refine lv_iload_n F.x F.cd dX3_width_33 rfl (lv_at hl 0 rfl) ?_
          subst hQ
          exact s_reti (v := (nI 3)) F hW rfl (Or.inl ⟨i1, j1, hi1, hj1, rfl, rfl, by rw [wid, hwd, wb_t (by decide) c_24], tw_2, fm_2⟩) ⟨(Nat.le_of_ble_eq_true rfl), (Nat.le_of_ble_eq_true rfl)⟩ dX3_width_34
        · have hwd : wb (ar 0) i1 j1 4 = wb (ar 0) i1 j1 2 := by rw [hwd, wb_f (by decide) c_24]
          refine lv_iinc (k := 0) (v := (nI 2)) (lv' := [(3, .int (nI 2)), (0, .ref m), (1, .int (nI i1)), (2, .int (nI j1))]) F.x F.cd dX3_width_27 hl rfl (by decide) (by decide) rfl (fun ls hl => ?_)
          refine lv_goto (tgt := 13) F.x F.cd dX3_width_30 (by decide) ?_
          refine lv_iload_n F.x F.cd dX3_width_13 rfl (lv_at hl 0 rfl) ?_
          refine n_if_le (a := 2) (tgt := 33) F (by omega) dX3_width_14 (by decide) (fun c_14 => absurd c_14 (by decide)) (fun c_14 => ?_)
          refine lv_aload_n F.x F.cd dX3_width_17 rfl (lv_at hl 1 rfl) ?_
          refine lv_iload_n F.x F.cd dX3_width_18 rfl (lv_at hl 2 rfl) ?_
          refine lv_iload_n F.x F.cd dX3_width_19 rfl (lv_at hl 3 rfl) ?_
          refine lv_iload_n F.x F.cd dX3_width_20 rfl (lv_at hl 0 rfl) ?_
          refine s_callV (As := [.int (nI i1), .int (nI j1), .int (nI 2)]) (rest := []) (C := RX3) (T := TX3) (N := 18) (n := 3) F hW (k_X3_joins g l σ1 m A _ _ _ _ i1 j1 2 tw_2 hI (by omega) (by omega) (by omega)) (t0_2) rfl q2546 q2548 qs53 q79 q2549 rfl (by decide +kernel) rfl ⟨⟨Nat.le_of_ble_eq_true rfl, Nat.le_of_ble_eq_true rfl⟩, ⟨(Nat.le_of_ble_eq_true rfl), (Nat.le_of_ble_eq_true rfl)⟩⟩ (Nat.le_of_ble_eq_true rfl) hl.1 rfl dX3_width_21 cX_no (fun r5 σ5 H locs hp5 hW => ?_)
          obtain ⟨rfl, hs5⟩ := hp5
          rw [hs5] at hW
          refine W.eq (g2 := F0 m_ 24 ls (.int (bI (conB (ar 0) 2 (-1) i1 j1)) :: [])) rfl ?_
          refine b_if_ne (b := (conB (ar 0) 2 (-1) i1 j1)) (tgt := 33) F dX3_width_24 (by decide) (fun c_24 => ?_) (fun c_24 => ?_)
          · refine lv_iload_n F.x F.cd dX3_width_33 rfl (lv_at hl 0 rfl) ?_
            subst hQ
            exact s_reti (v := (nI 2)) F hW rfl (Or.inl ⟨i1, j1, hi1, hj1, rfl, rfl, by rw [wid, hwd, wb_t (by decide) c_24], tw_2, fm_2⟩) ⟨(Nat.le_of_ble_eq_true rfl), (Nat.le_of_ble_eq_true rfl)⟩ dX3_width_34
          · have hwd : wb (ar 0) i1 j1 4 = wb (ar 0) i1 j1 1 := by rw [hwd, wb_f (by decide) c_24]
            refine lv_iinc (k := 0) (v := (nI 1)) (lv' := [(3, .int (nI 1)), (0, .ref m), (1, .int (nI i1)), (2, .int (nI j1))]) F.x F.cd dX3_width_27 hl rfl (by decide) (by decide) rfl (fun ls hl => ?_)
            refine lv_goto (tgt := 13) F.x F.cd dX3_width_30 (by decide) ?_
            refine lv_iload_n F.x F.cd dX3_width_13 rfl (lv_at hl 0 rfl) ?_
            refine n_if_le (a := 1) (tgt := 33) F (by omega) dX3_width_14 (by decide) (fun c_14 => absurd c_14 (by decide)) (fun c_14 => ?_)
            refine lv_aload_n F.x F.cd dX3_width_17 rfl (lv_at hl 1 rfl) ?_
            refine lv_iload_n F.x F.cd dX3_width_18 rfl (lv_at hl 2 rfl) ?_
            refine lv_iload_n F.x F.cd dX3_width_19 rfl (lv_at hl 3 rfl) ?_
            refine lv_iload_n F.x F.cd dX3_width_20 rfl (lv_at hl 0 rfl) ?_
            refine s_callV (As := [.int (nI i1), .int (nI j1), .int (nI 1)]) (rest := []) (C := RX3) (T := TX3) (N := 18) (n := 3) F hW (k_X3_joins g l σ1 m A _ _ _ _ i1 j1 1 tw_2 hI (by omega) (by omega) (by omega)) (t0_2) rfl q2546 q2548 qs53 q79 q2549 rfl (by decide +kernel) rfl ⟨⟨Nat.le_of_ble_eq_true rfl, Nat.le_of_ble_eq_true rfl⟩, ⟨(Nat.le_of_ble_eq_true rfl), (Nat.le_of_ble_eq_true rfl)⟩⟩ (Nat.le_of_ble_eq_true rfl) hl.1 rfl dX3_width_21 cX_no (fun r6 σ6 H locs hp6 hW => ?_)
            obtain ⟨rfl, hs6⟩ := hp6
            rw [hs6] at hW
            refine W.eq (g2 := F0 m_ 24 ls (.int (bI (conB (ar 0) 1 (-1) i1 j1)) :: [])) rfl ?_
            refine b_if_ne (b := (conB (ar 0) 1 (-1) i1 j1)) (tgt := 33) F dX3_width_24 (by decide) (fun c_24 => ?_) (fun c_24 => ?_)
            · refine lv_iload_n F.x F.cd dX3_width_33 rfl (lv_at hl 0 rfl) ?_
              subst hQ
              exact s_reti (v := (nI 1)) F hW rfl (Or.inl ⟨i1, j1, hi1, hj1, rfl, rfl, by rw [wid, hwd, wb_t (by decide) c_24], tw_2, fm_2⟩) ⟨(Nat.le_of_ble_eq_true rfl), (Nat.le_of_ble_eq_true rfl)⟩ dX3_width_34
            · have hwd : wb (ar 0) i1 j1 4 = wb (ar 0) i1 j1 0 := by rw [hwd, wb_f (by decide) c_24]
              refine lv_iinc (k := 0) (v := (nI 0)) (lv' := [(3, .int (nI 0)), (0, .ref m), (1, .int (nI i1)), (2, .int (nI j1))]) F.x F.cd dX3_width_27 hl rfl (by decide) (by decide) rfl (fun ls hl => ?_)
              refine lv_goto (tgt := 13) F.x F.cd dX3_width_30 (by decide) ?_
              refine lv_iload_n F.x F.cd dX3_width_13 rfl (lv_at hl 0 rfl) ?_
              refine n_if_le (a := 0) (tgt := 33) F (by omega) dX3_width_14 (by decide) (fun c_14 => ?_) (fun c_14 => absurd (by decide) c_14)
              refine lv_iload_n F.x F.cd dX3_width_33 rfl (lv_at hl 0 rfl) ?_
              subst hQ
              exact s_reti (v := (nI 0)) F hW rfl (Or.inl ⟨i1, j1, hi1, hj1, rfl, rfl, by rw [wid, hwd]; rfl, tw_2, fm_2⟩) ⟨(Nat.le_of_ble_eq_true rfl), (Nat.le_of_ble_eq_true rfl)⟩ dX3_width_34
    · exact absurd c_6 (by decide)
  · have hz1 : (inN a ((ar 0) 0) && inN b ((ar 0) 0)) = false := hz1
    refine W.eq (g2 := F0 m_ 6 ls (.int (bI false) :: [])) rfl ?_
    obtain ⟨t0_7, -, ta0_7, ta1_7, ta2_7, ta3_7, ta4_7, ta5_7, ta6_7, ta7_7, -, -⟩ := id tv1
    have fm_7 : Fm σ σ1 m A := (Fm.refl).trans fv1
    have tw_7 : IsTw g σ1 m A (va_up iv 17 (nI 1)) wd ar rb := ⟨t0_7, tb0, ta0_7, ta1_7, ta2_7, ta3_7, ta4_7, ta5_7, ta6_7, ta7_7, tbb, tii⟩
    refine b_if_ne (b := false) (tgt := 11) F dX3_width_6 (by decide) (fun c_6 => ?_) (fun c_6 => ?_)
    · exact absurd c_6 (by decide)
    · refine lv_iconst (v := (nI 0)) F.x F.cd dX3_width_9 (by decide) ?_
      subst hQ
      exact s_reti (v := (nI 0)) F hW rfl (Or.inr ⟨hz1, rfl, tw_7, fm_7⟩) ⟨(Nat.le_of_ble_eq_true rfl), (Nat.le_of_ble_eq_true rfl)⟩ dX3_width_10
set_option maxHeartbeats 4000000 in
theorem k_X3_widthBySettings (g : Gh) (l : Launch) (σ : Sto) (m : Nat) (A : Nat → Nat) (iv : Nat → Int32) (wd : Nat) (ar : Nat → Nat → Nat) (rb : Nat → Bool) (a b : Int32) (hw : IsTw g σ m A iv wd ar rb) (hI : Inv (ar 0)) : Ct g l yX3_widthBySettings cX3_widthBySettings 3 (some .int) ({ frames := 5, cells := 0, slots := 0, locals := 116 } : Room) [.ref m, .int a, .int b] σ (fun r σ' => (∃ i j, i < ar 0 0 ∧ j < ar 0 0 ∧ a = nI i ∧ b = nI j ∧ r = some (.int (nI (wid (ar 0) i j))) ∧ IsTw g σ' m A (va_up iv 17 (nI 0)) wd ar rb ∧ Fm σ σ' m A) ∨ ((inN a (ar 0 0) && inN b (ar 0 0)) = false ∧ r = some (.int (nI 0)) ∧ IsTw g σ' m A (va_up iv 17 (nI 1)) wd ar rb ∧ Fm σ σ' m A)) (nox) := by
  refine Ct.body (by decide) (Nat.le_of_ble_eq_true rfl) ?_
  intro p_ e_ s_ m_ args_ below_ meth_ c_ ls H locs Q F hW hl hQ
  have hl : lv_has ls 3 [(0, .ref m), (1, .int a), (2, .int b)] := hl
  obtain ⟨t0, tb0, ta0, ta1, ta2, ta3, ta4, ta5, ta6, ta7, tbb, tii⟩ := id hw
  have hv0 := hI.1
  have hv1 := hI.2.1
  refine lv_aload_n F.x F.cd dX3_widthBySettings_0 rfl (lv_at hl 0 rfl) ?_
  refine lv_iload_n F.x F.cd dX3_widthBySettings_1 rfl (lv_at hl 1 rfl) ?_
  refine lv_iload_n F.x F.cd dX3_widthBySettings_2 rfl (lv_at hl 2 rfl) ?_
  refine s_callV (As := [.int a, .int b]) (rest := []) (C := RX3) (T := TX3) (N := 18) (n := 2) F hW (k_X3_width g l σ m A _ _ _ _ a b hw hI) (t0) rfl q2588 q2581 q2582 q79 q2583 rfl (by decide +kernel) rfl ⟨⟨Nat.le_of_ble_eq_true rfl, Nat.le_of_ble_eq_true rfl⟩, ⟨(Nat.le_of_ble_eq_true rfl), (Nat.le_of_ble_eq_true rfl)⟩⟩ (Nat.le_of_ble_eq_true rfl) hl.1 rfl dX3_widthBySettings_3 cX_no (fun r1 σ1 H locs hp1 hW => ?_)
  rcases hp1 with ⟨i1, j1, hi1, hj1, rfl, rfl, rfl, tv1, fv1⟩ | ⟨hz1, rfl, tv1, fv1⟩
  · have hi1 : i1 < (ar 0) 0 := hi1
    have hj1 : j1 < (ar 0) 0 := hj1
    refine W.eq (g2 := F0 m_ 6 ls (.int (nI (wid (ar 0) i1 j1)) :: [])) rfl ?_
    obtain ⟨t0_2, -, ta0_2, ta1_2, ta2_2, ta3_2, ta4_2, ta5_2, ta6_2, ta7_2, -, -⟩ := id tv1
    have fm_2 : Fm σ σ1 m A := (Fm.refl).trans fv1
    have tw_2 : IsTw g σ1 m A (va_up iv 17 (nI 0)) wd ar rb := ⟨t0_2, tb0, ta0_2, ta1_2, ta2_2, ta3_2, ta4_2, ta5_2, ta6_2, ta7_2, tbb, tii⟩
    subst hQ
    exact s_reti (v := (nI (wid (ar 0) i1 j1))) F hW rfl (Or.inl ⟨i1, j1, hi1, hj1, rfl, rfl, rfl, tw_2, fm_2⟩) ⟨(Nat.le_of_ble_eq_true rfl), (Nat.le_of_ble_eq_true rfl)⟩ dX3_widthBySettings_6
  · have hz1 : (inN a ((ar 0) 0) && inN b ((ar 0) 0)) = false := hz1
    refine W.eq (g2 := F0 m_ 6 ls (.int (nI 0) :: [])) rfl ?_
    obtain ⟨t0_3, -, ta0_3, ta1_3, ta2_3, ta3_3, ta4_3, ta5_3, ta6_3, ta7_3, -, -⟩ := id tv1
    have fm_3 : Fm σ σ1 m A := (Fm.refl).trans fv1
    have tw_3 : IsTw g σ1 m A (va_up iv 17 (nI 1)) wd ar rb := ⟨t0_3, tb0, ta0_3, ta1_3, ta2_3, ta3_3, ta4_3, ta5_3, ta6_3, ta7_3, tbb, tii⟩
    subst hQ
    exact s_reti (v := (nI 0)) F hW rfl (Or.inr ⟨hz1, rfl, tw_3, fm_3⟩) ⟨(Nat.le_of_ble_eq_true rfl), (Nat.le_of_ble_eq_true rfl)⟩ dX3_widthBySettings_6
