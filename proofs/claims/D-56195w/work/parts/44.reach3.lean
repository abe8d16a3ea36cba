/-! ===== Reach: new, states, fewest ===== -/
set_option maxRecDepth 100000
set_option maxHeartbeats 4000000 in
theorem k_X11_init (g : Gh) (l : Launch) (σ : Sto) (h n st : Nat) (e0 : σ h = some (.inr (14, [.int (nI 0), .null]))) (b0 : gB g ≤ h) (hn : n ≤ 8) : Ct g l yX11_init cX11_init 3 none ({ frames := 1, cells := 1, slots := 32, locals := 24 } : Room) [.ref h, .int (nI n), .int (nI st)] σ (fun r σ' => r = none ∧ ∃ ba, σ ba = none ∧ gB g ≤ ba ∧ σ' h = some (.inr (14, [.int (nI st), .ref ba])) ∧ σ' ba = some (eL g (4 * n) (fun _ => 0)) ∧ Ex1 σ σ' h) (nox) := by
  refine Ct.body (by decide) (Nat.le_of_ble_eq_true rfl) ?_
  intro p_ e_ s_ m_ args_ below_ meth_ c_ ls H locs Q F hW hl hQ
  have hl : lv_has ls 3 [(0, .ref h), (1, .int (nI n)), (2, .int (nI st))] := hl
  refine lv_aload_n F.x F.cd dX11_init_0 rfl (lv_at hl 0 rfl) ?_
  refine W.objInit F.x F.cd F.ow (F.ts _ q866) (F.ts _ q123) (F.ts _ q124) rfl (by rw [F.ml]; exact hl.1) rfl dX11_init_1 (Nat.le_of_ble_eq_true rfl) (Nat.le_of_ble_eq_true rfl) ?_
  refine W.eq (g2 := F0 m_ 4 ls ([])) rfl ?_
  refine lv_aload_n F.x F.cd dX11_init_4 rfl (lv_at hl 0 rfl) ?_
  refine lv_iload_n F.x F.cd dX11_init_5 rfl (lv_at hl 2 rfl) ?_
  refine s_putF F hW (ci := 14) (C := RX11) (T := TX11) (N := 2) (v := .int (nI st)) (ty := .int) (e0) (b0) rfl in_X11 tyX11_ok nmX11 0 (by decide) q867 (fun _ h9 => h9) rfl rfl (by decide +kernel) rfl rfl (Nat.le_of_ble_eq_true rfl) dX11_init_6 (fun H locs hW => ?_)
  obtain ⟨σ2, hσ2⟩ : ∃ z, z = sset σ h (.inr (14, [.int (nI st), .null])) := ⟨_, rfl⟩
  have hW : Hl g σ2 H locs := by rw [hσ2]; exact hW
  have w2 : σ2 h = some (.inr (14, [.int (nI st), .null])) := by rw [hσ2]; exact sset_eq
  refine lv_aload_n F.x F.cd dX11_init_9 rfl (lv_at hl 0 rfl) ?_
  refine lv_iconst (v := (nI 4)) F.x F.cd dX11_init_10 (by decide) ?_
  refine lv_iload_n F.x F.cd dX11_init_11 rfl (lv_at hl 1 rfl) ?_
  refine a_imul (v := (nI (4 * n))) F (pk_mul _ _) dX11_init_12 ?_
  refine s_newa F hW 4 (N := 4 * n) (atype := .long) (ty := .long) rfl rfl rfl q875 (4 * n, .inr (.inl (fun _ => 0))) rfl (nI_pos (by omega)) (nI_clamp (by omega)) (by show _ * 8 ≤ _; omega) (Nat.le_of_ble_eq_true rfl) (Nat.le_trans (m := 32) (by show 0 + 4 * n ≤ _; omega) (Nat.le_of_ble_eq_true rfl)) dX11_init_13 (fun q3_ H hb_q3_ hn_q3_ hW => ?_)
  refine W.widen (k := 1) (n := 32) (Nat.le_of_ble_eq_true rfl) (by show 0 + 4 * n ≤ _; omega) ?_
  obtain ⟨σ4, hσ4⟩ : ∃ z, z = sset σ2 q3_ (eL g (4 * n) (fun _ => 0)) := ⟨_, rfl⟩
  have hW : Hl g σ4 H locs := by rw [hσ4]; exact hW
  have w4 : σ4 q3_ = some (eL g (4 * n) (fun _ => 0)) := by rw [hσ4]; exact sset_eq
  have f5 : σ4 h = some (.inr (14, [.int (nI st), .null])) := by rw [hσ4, sset_ne (sto_ne0 hn_q3_ w2)]; exact w2
  have hq9 : q3_ ≠ h := fun e9 => by
    have h9 := hn_q3_
    rw [e9, w2] at h9
    cases h9
  have hn9 : σ q3_ = none := by
    have h9 := hn_q3_
    rw [hσ2, sset_ne hq9] at h9
    exact h9
  refine s_putF F hW (ci := 14) (C := RX11) (T := TX11) (N := 2) (v := .ref q3_) (ty := (.array .long)) (f5) (b0) rfl in_X11 tyX11_ok nmX11 1 (by decide) q869 (fun _ h9 => h9) rfl rfl (by decide +kernel) rfl rfl (Nat.le_of_ble_eq_true rfl) dX11_init_15 (fun H locs hW => ?_)
  obtain ⟨σ7, hσ7⟩ : ∃ z, z = sset σ4 h (.inr (14, [.int (nI st), .ref q3_])) := ⟨_, rfl⟩
  have hW : Hl g σ7 H locs := by rw [hσ7]; exact hW
  have w7 : σ7 h = some (.inr (14, [.int (nI st), .ref q3_])) := by rw [hσ7]; exact sset_eq
  have f8 : σ7 q3_ = some (eL g (4 * n) (fun _ => 0)) := by rw [hσ7, sset_ne (Ne.symm (sto_ne0 hn_q3_ w2))]; exact w4
  subst hQ
  exact s_retv F hW (⟨rfl, q3_, hn9, hb_q3_, w7, f8, by rw [hσ7, hσ4, hσ2]; exact (((Ex1.refl.self).new hn9).self)⟩) ⟨(Nat.le_of_ble_eq_true rfl), (Nat.le_of_ble_eq_true rfl)⟩ dX11_init_18
set_option maxHeartbeats 4000000 in
theorem k_X11_states (g : Gh) (l : Launch) (σ : Sto) (h ba n st : Nat) (f : Nat → Int64) (e0 : σ h = some (.inr (14, [.int (nI st), .ref ba]))) (eb : σ ba = some (eL g (4 * n) f)) (hn : n ≤ 8) (hst : st < 256) : Ct g l yX11_states cX11_states 1 (some .int) ({ frames := 0, cells := 0, slots := 0, locals := 0 } : Room) [.ref h] σ (fun r σ' => r = some (.int (nI (n * 2 ^ pops st))) ∧ σ' = σ) (nox) := by
  refine Ct.body (by decide) (Nat.le_of_ble_eq_true rfl) ?_
  intro p_ e_ s_ m_ args_ below_ meth_ c_ ls H locs Q F hW hl hQ
  have hl : lv_has ls 1 [(0, .ref h)] := hl
  refine lv_aload_n F.x F.cd dX11_states_0 rfl (lv_at hl 0 rfl) ?_
  refine s_get F hW (ci := 14) (C := RX11) (T := TX11) (N := 2) (v := .ref ba) (e0) rfl in_X11 1 (by decide) q869 (fun _ h9 => h9) rfl dX11_states_1 ?_
  refine s_alen F hW (eb) 4 rfl (v := nI (4 * n)) rfl dX11_states_4 ?_
  refine lv_iconst (v := (nI 4)) F.x F.cd dX11_states_5 (by decide) ?_
  refine a_idiv (v := (nI n)) F (by rw [pk_div (by omega) (by omega) (by omega)]; congr 1; omega) (by decide) dX11_states_6 ?_
  refine s_getsN F hW (v := .ref (gA g 3)) (List.mem_of_getElem? (i := 4) rfl) q880 (fun _ h9 => h9) dX11_states_7 ?_
  refine lv_aload_n F.x F.cd dX11_states_10 rfl (lv_at hl 0 rfl) ?_
  refine s_get F hW (ci := 14) (C := RX11) (T := TX11) (N := 2) (v := .int (nI st)) (e0) rfl in_X11 0 (by decide) q867 (fun _ h9 => h9) rfl dX11_states_11 ?_
  refine n_iald (i := st) (n := 256) (f := (fun j => nI (pops j))) (x := (nI (pops st))) F hW (hW.1.old F.cs F.cs.2.2.2.2.1) (by omega) (by omega) (rfl) dX11_states_14 ?_
  refine a_ishl (v := (nI (n * 2 ^ pops st))) F (shl_nI n (by omega) (pops st) (by have := pops_lt st hst; omega)) dX11_states_15 ?_
  subst hQ
  exact s_reti (v := (nI (n * 2 ^ pops st))) F hW rfl (⟨rfl, rfl⟩) ⟨(Nat.le_of_ble_eq_true rfl), (Nat.le_of_ble_eq_true rfl)⟩ dX11_states_16
set_option maxHeartbeats 4000000 in
theorem k_X11_fewest (g : Gh) (l : Launch) (σ : Sto) (h ba n st : Nat) (f : Nat → Int64) (t : Nat) (e0 : σ h = some (.inr (14, [.int (nI st), .ref ba]))) (eb : σ ba = some (eL g (4 * n) f)) (hn : n ≤ 8) (ht : t < n) (hst : st < 256) : Ct g l yX11_fewest cX11_fewest 5 (some .int) ({ frames := 1, cells := 0, slots := 0, locals := 22 } : Room) [.ref h, .int (nI t)] σ (fun r σ' => r = some (.int (oI (fwl f t (st + 1)))) ∧ σ' = σ) (nox) := by
  refine Ct.body (by decide) (Nat.le_of_ble_eq_true rfl) ?_
  intro p_ e_ s_ m_ args_ below_ meth_ c_ ls H locs Q F hW hl hQ
  have hl : lv_has ls 5 [(0, .ref h), (1, .int (nI t))] := hl
  refine lv_iconst (v := (-1 : Int32)) F.x F.cd dX11_fewest_0 (by decide) ?_
  refine lv_istore_n (lv' := [(2, .int (-1 : Int32)), (0, .ref h), (1, .int (nI t))]) F.x F.cd dX11_fewest_1 rfl hl (by decide) rfl (fun ls hl => ?_)
  refine lv_iconst (v := (nI 0)) F.x F.cd dX11_fewest_2 (by decide) ?_
  refine lv_istore_n (lv' := [(3, .int (nI 0)), (2, .int (-1 : Int32)), (0, .ref h), (1, .int (nI t))]) F.x F.cd dX11_fewest_3 rfl hl (by decide) rfl (fun ls hl => ?_)
  have loop4 : ∀ (z : Nat) (k : Nat), k + z = st + 1 → ∀ (H : Heap) (locs : List Loc) (ls : Array Slot), Hl g σ H locs → lv_has ls 5 [(0, .ref h), (1, .int (nI t)), (2, .int (oI (fwl f t k))), (3, .int (nI k))] → W p_ l e_ ({ frames := 1, cells := 0, slots := 0, locals := 22 } : Room) s_ m_ args_ below_ meth_ c_ H locs 0 0 Q (F0 m_ 4 ls ([])) := by
    intro z
    induction z with
    | zero =>
      intro k hkz  H locs ls hW hl
      refine lv_iload_n F.x F.cd dX11_fewest_4 rfl (lv_at hl 3 rfl) ?_
      refine lv_aload_n F.x F.cd dX11_fewest_5 rfl (lv_at hl 0 rfl) ?_
      refine s_get F hW (ci := 14) (C := RX11) (T := TX11) (N := 2) (v := .int (nI st)) (e0) rfl in_X11 0 (by decide) q867 (fun _ h9 => h9) rfl dX11_fewest_6 ?_
      refine n_icmp_gt (a := k) (b := st) (tgt := 63) F (by omega) (by omega) dX11_fewest_9 (by decide) (fun c_9 => ?_) (fun c_9 => ?_)
      · refine lv_iload_n F.x F.cd dX11_fewest_63 rfl (lv_at hl 2 rfl) ?_
        subst hQ
        exact s_reti (v := (oI (fwl f t k))) F hW rfl (⟨by rw [show k = st + 1 by omega], rfl⟩) ⟨(Nat.le_of_ble_eq_true rfl), (Nat.le_of_ble_eq_true rfl)⟩ dX11_fewest_64
      · exact absurd c_9 (by omega)
    | succ z ih4 =>
      intro k hkz  H locs ls hW hl
      refine lv_iload_n F.x F.cd dX11_fewest_4 rfl (lv_at hl 3 rfl) ?_
      refine lv_aload_n F.x F.cd dX11_fewest_5 rfl (lv_at hl 0 rfl) ?_
      refine s_get F hW (ci := 14) (C := RX11) (T := TX11) (N := 2) (v := .int (nI st)) (e0) rfl in_X11 0 (by decide) q867 (fun _ h9 => h9) rfl dX11_fewest_6 ?_
      refine n_icmp_gt (a := k) (b := st) (tgt := 63) F (by omega) (by omega) dX11_fewest_9 (by decide) (fun c_9 => ?_) (fun c_9 => ?_)
      · exact absurd c_9 (by omega)
      · rcases hf : fwl f t k with _ | w
        · rw [hf] at hl
          have hpk := pops_lt k (by omega)
          have hl : lv_has ls 5 [(0, .ref h), (1, .int (nI t)), (2, .int (-1 : Int32)), (3, .int (nI k))] := hl
          refine lv_iload_n F.x F.cd dX11_fewest_12 rfl (lv_at hl 2 rfl) ?_
          refine lv_iconst (v := (-1 : Int32)) F.x F.cd dX11_fewest_13 (by decide) ?_
          refine lv_icmp_eq (x := (-1 : Int32)) (y := (-1 : Int32)) (tgt := 26) F.x F.cd dX11_fewest_14 (by decide) (fun c_14 => ?_) (fun c_14 => ?_)
          · refine lv_iconst (v := (nI 1)) F.x F.cd dX11_fewest_26 (by decide) ?_
            refine lv_goto (tgt := 31) F.x F.cd dX11_fewest_27 (by decide) ?_
            refine W.eq (g2 := F0 m_ 31 ls (.int (bI (flt (pops k) (fwl f t k))) :: [])) (by rw [show flt (pops k) (fwl f t k) = true by rw [hf]; first | rfl | (simp [flt]; omega)]; rfl) ?_
            refine lv_istore (lv' := [(4, .int (bI (flt (pops k) (fwl f t k)))), (0, .ref h), (1, .int (nI t)), (2, .int (-1 : Int32)), (3, .int (nI k))]) F.x F.cd dX11_fewest_31 hl (by decide) rfl (fun ls hl => ?_)
            refine lv_aload_n F.x F.cd dX11_fewest_33 rfl (lv_at hl 1 rfl) ?_
            refine lv_iload_n F.x F.cd dX11_fewest_34 rfl (lv_at hl 2 rfl) ?_
            refine lv_iload_n F.x F.cd dX11_fewest_35 rfl (lv_at hl 4 rfl) ?_
            refine s_callV (As := [.int (nI t), .int (nI k)]) (rest := []) (C := RX11) (T := TX11) (N := 2) (n := 2) F hW (k_X11_has g l σ h ba n st f t k (e0) (eb) hn (by omega) (by omega)) (e0) rfl q886 q887 q888 q109 q889 rfl (by decide +kernel) rfl ⟨⟨Nat.le_of_ble_eq_true rfl, Nat.le_of_ble_eq_true rfl⟩, ⟨(Nat.le_of_ble_eq_true rfl), (Nat.le_of_ble_eq_true rfl)⟩⟩ (Nat.le_of_ble_eq_true rfl) hl.1 rfl dX11_fewest_36 cX_no (fun r1 σ1 H locs hp1 hW => ?_)
            obtain ⟨rfl, hs1⟩ := hp1
            rw [hs1] at hW
            refine W.eq (g2 := F0 m_ 39 ls (.int (bI (lbit (f (4 * t + k / 64)) k)) :: [])) rfl ?_
            refine b_if_eq (b := (lbit (f (4 * t + k / 64)) k)) (tgt := 55) F dX11_fewest_39 (by decide) (fun c_39 => ?_) (fun c_39 => ?_)
            · refine lv_iload_n F.x F.cd dX11_fewest_55 rfl (lv_at hl 3 rfl) ?_
              refine W.eq (g2 := F0 m_ 56 ls (.int (oI (fwl f t (k + 1))) :: [])) (by rw [show fwl f t (k + 1) = fwl f t k by rw [fwl, if_neg (by rw [show (rhas f t k && flt (pops k) (fwl f t k)) = false by rw [show rhas f t k = false from c_39, Bool.false_and]]; decide)], hf]; rfl) ?_
              refine lv_istore_n (lv' := [(2, .int (oI (fwl f t (k + 1)))), (4, .int (bI (flt (pops k) (fwl f t k)))), (0, .ref h), (1, .int (nI t)), (3, .int (nI k))]) F.x F.cd dX11_fewest_56 rfl hl (by decide) rfl (fun ls hl => ?_)
              refine lv_iinc (k := 4) (v := (nI (k + 1))) (lv' := [(3, .int (nI (k + 1))), (2, .int (oI (fwl f t (k + 1)))), (4, .int (bI (flt (pops k) (fwl f t k)))), (0, .ref h), (1, .int (nI t))]) F.x F.cd dX11_fewest_57 hl rfl (inc_nI k 1) (by decide) rfl (fun ls hl => ?_)
              refine lv_goto (tgt := 4) F.x F.cd dX11_fewest_60 (by decide) ?_
              exact ih4 (k + 1) (by omega)  H locs ls hW (lv_sub hl [3, 4, 1, 0] rfl)
            · refine lv_iload F.x F.cd dX11_fewest_42 (lv_at hl 0 rfl) ?_
              refine b_if_eq (b := (flt (pops k) (fwl f t k))) (tgt := 55) F dX11_fewest_44 (by decide) (fun c_44 => ?_) (fun c_44 => ?_)
              · refine lv_iload_n F.x F.cd dX11_fewest_55 rfl (lv_at hl 3 rfl) ?_
                refine W.eq (g2 := F0 m_ 56 ls (.int (oI (fwl f t (k + 1))) :: [])) (by rw [show fwl f t (k + 1) = fwl f t k by rw [fwl, if_neg (by rw [show (rhas f t k && flt (pops k) (fwl f t k)) = false by rw [c_44, Bool.and_false]]; decide)], hf]; rfl) ?_
                refine lv_istore_n (lv' := [(2, .int (oI (fwl f t (k + 1)))), (4, .int (bI (flt (pops k) (fwl f t k)))), (0, .ref h), (1, .int (nI t)), (3, .int (nI k))]) F.x F.cd dX11_fewest_56 rfl hl (by decide) rfl (fun ls hl => ?_)
                refine lv_iinc (k := 4) (v := (nI (k + 1))) (lv' := [(3, .int (nI (k + 1))), (2, .int (oI (fwl f t (k + 1)))), (4, .int (bI (flt (pops k) (fwl f t k)))), (0, .ref h), (1, .int (nI t))]) F.x F.cd dX11_fewest_57 hl rfl (inc_nI k 1) (by decide) rfl (fun ls hl => ?_)
                refine lv_goto (tgt := 4) F.x F.cd dX11_fewest_60 (by decide) ?_
                exact ih4 (k + 1) (by omega)  H locs ls hW (lv_sub hl [3, 4, 1, 0] rfl)
              · refine s_getsN F hW (v := .ref (gA g 3)) (List.mem_of_getElem? (i := 4) rfl) q880 (fun _ h9 => h9) dX11_fewest_47 ?_
                refine lv_iload_n F.x F.cd dX11_fewest_50 rfl (lv_at hl 4 rfl) ?_
                refine n_iald (i := k) (n := 256) (f := (fun j => nI (pops j))) (x := (nI (pops k))) F hW (hW.1.old F.cs F.cs.2.2.2.2.1) (by omega) (by omega) (rfl) dX11_fewest_51 ?_
                refine lv_goto (tgt := 56) F.x F.cd dX11_fewest_52 (by decide) ?_
                refine W.eq (g2 := F0 m_ 56 ls (.int (oI (fwl f t (k + 1))) :: [])) (by rw [show fwl f t (k + 1) = some (pops k) by rw [fwl, if_pos (by rw [Bool.and_eq_true]; exact ⟨c_39, c_44⟩)]]; rfl) ?_
                refine lv_istore_n (lv' := [(2, .int (oI (fwl f t (k + 1)))), (4, .int (bI (flt (pops k) (fwl f t k)))), (0, .ref h), (1, .int (nI t)), (3, .int (nI k))]) F.x F.cd dX11_fewest_56 rfl hl (by decide) rfl (fun ls hl => ?_)
                refine lv_iinc (k := 4) (v := (nI (k + 1))) (lv' := [(3, .int (nI (k + 1))), (2, .int (oI (fwl f t (k + 1)))), (4, .int (bI (flt (pops k) (fwl f t k)))), (0, .ref h), (1, .int (nI t))]) F.x F.cd dX11_fewest_57 hl rfl (inc_nI k 1) (by decide) rfl (fun ls hl => ?_)
                refine lv_goto (tgt := 4) F.x F.cd dX11_fewest_60 (by decide) ?_
                exact ih4 (k + 1) (by omega)  H locs ls hW (lv_sub hl [3, 4, 1, 0] rfl)
          · exact absurd rfl c_14
        · rw [hf] at hl
          have hw8 := fwl_le k (by omega) w hf
          have hpk := pops_lt k (by omega)
          have hl : lv_has ls 5 [(0, .ref h), (1, .int (nI t)), (2, .int (nI w)), (3, .int (nI k))] := hl
          refine lv_iload_n F.x F.cd dX11_fewest_12 rfl (lv_at hl 2 rfl) ?_
          refine lv_iconst (v := (-1 : Int32)) F.x F.cd dX11_fewest_13 (by decide) ?_
          refine lv_icmp_eq (x := (nI w)) (y := (-1 : Int32)) (tgt := 26) F.x F.cd dX11_fewest_14 (by decide) (fun c_14 => ?_) (fun c_14 => ?_)
          · exact absurd c_14 (nI_neg (by omega))
          · refine s_getsN F hW (v := .ref (gA g 3)) (List.mem_of_getElem? (i := 4) rfl) q880 (fun _ h9 => h9) dX11_fewest_17 ?_
            refine lv_iload_n F.x F.cd dX11_fewest_20 rfl (lv_at hl 3 rfl) ?_
            refine n_iald (i := k) (n := 256) (f := (fun j => nI (pops j))) (x := (nI (pops k))) F hW (hW.1.old F.cs F.cs.2.2.2.2.1) (by omega) (by omega) (rfl) dX11_fewest_21 ?_
            refine lv_iload_n F.x F.cd dX11_fewest_22 rfl (lv_at hl 2 rfl) ?_
            refine n_icmp_ge (a := pops k) (b := w) (tgt := 30) F (by omega) (by omega) dX11_fewest_23 (by decide) (fun c_23 => ?_) (fun c_23 => ?_)
            · refine lv_iconst (v := (nI 0)) F.x F.cd dX11_fewest_30 (by decide) ?_
              refine W.eq (g2 := F0 m_ 31 ls (.int (bI (flt (pops k) (fwl f t k))) :: [])) (by rw [show flt (pops k) (fwl f t k) = false by rw [hf]; first | rfl | (simp [flt]; omega)]; rfl) ?_
              refine lv_istore (lv' := [(4, .int (bI (flt (pops k) (fwl f t k)))), (0, .ref h), (1, .int (nI t)), (2, .int (nI w)), (3, .int (nI k))]) F.x F.cd dX11_fewest_31 hl (by decide) rfl (fun ls hl => ?_)
              refine lv_aload_n F.x F.cd dX11_fewest_33 rfl (lv_at hl 1 rfl) ?_
              refine lv_iload_n F.x F.cd dX11_fewest_34 rfl (lv_at hl 2 rfl) ?_
              refine lv_iload_n F.x F.cd dX11_fewest_35 rfl (lv_at hl 4 rfl) ?_
              refine s_callV (As := [.int (nI t), .int (nI k)]) (rest := []) (C := RX11) (T := TX11) (N := 2) (n := 2) F hW (k_X11_has g l σ h ba n st f t k (e0) (eb) hn (by omega) (by omega)) (e0) rfl q886 q887 q888 q109 q889 rfl (by decide +kernel) rfl ⟨⟨Nat.le_of_ble_eq_true rfl, Nat.le_of_ble_eq_true rfl⟩, ⟨(Nat.le_of_ble_eq_true rfl), (Nat.le_of_ble_eq_true rfl)⟩⟩ (Nat.le_of_ble_eq_true rfl) hl.1 rfl dX11_fewest_36 cX_no (fun r2 σ2 H locs hp2 hW => ?_)
              obtain ⟨rfl, hs2⟩ := hp2
              rw [hs2] at hW
              refine W.eq (g2 := F0 m_ 39 ls (.int (bI (lbit (f (4 * t + k / 64)) k)) :: [])) rfl ?_
              refine b_if_eq (b := (lbit (f (4 * t + k / 64)) k)) (tgt := 55) F dX11_fewest_39 (by decide) (fun c_39 => ?_) (fun c_39 => ?_)
              · refine lv_iload_n F.x F.cd dX11_fewest_55 rfl (lv_at hl 3 rfl) ?_
                refine W.eq (g2 := F0 m_ 56 ls (.int (oI (fwl f t (k + 1))) :: [])) (by rw [show fwl f t (k + 1) = fwl f t k by rw [fwl, if_neg (by rw [show (rhas f t k && flt (pops k) (fwl f t k)) = false by rw [show rhas f t k = false from c_39, Bool.false_and]]; decide)], hf]; rfl) ?_
                refine lv_istore_n (lv' := [(2, .int (oI (fwl f t (k + 1)))), (4, .int (bI (flt (pops k) (fwl f t k)))), (0, .ref h), (1, .int (nI t)), (3, .int (nI k))]) F.x F.cd dX11_fewest_56 rfl hl (by decide) rfl (fun ls hl => ?_)
                refine lv_iinc (k := 4) (v := (nI (k + 1))) (lv' := [(3, .int (nI (k + 1))), (2, .int (oI (fwl f t (k + 1)))), (4, .int (bI (flt (pops k) (fwl f t k)))), (0, .ref h), (1, .int (nI t))]) F.x F.cd dX11_fewest_57 hl rfl (inc_nI k 1) (by decide) rfl (fun ls hl => ?_)
                refine lv_goto (tgt := 4) F.x F.cd dX11_fewest_60 (by decide) ?_
                exact ih4 (k + 1) (by omega)  H locs ls hW (lv_sub hl [3, 4, 1, 0] rfl)
              · refine lv_iload F.x F.cd dX11_fewest_42 (lv_at hl 0 rfl) ?_
                refine b_if_eq (b := (flt (pops k) (fwl f t k))) (tgt := 55) F dX11_fewest_44 (by decide) (fun c_44 => ?_) (fun c_44 => ?_)
                · refine lv_iload_n F.x F.cd dX11_fewest_55 rfl (lv_at hl 3 rfl) ?_
                  refine W.eq (g2 := F0 m_ 56 ls (.int (oI (fwl f t (k + 1))) :: [])) (by rw [show fwl f t (k + 1) = fwl f t k by rw [fwl, if_neg (by rw [show (rhas f t k && flt (pops k) (fwl f t k)) = false by rw [c_44, Bool.and_false]]; decide)], hf]; rfl) ?_
                  refine lv_istore_n (lv' := [(2, .int (oI (fwl f t (k + 1)))), (4, .int (bI (flt (pops k) (fwl f t k)))), (0, .ref h), (1, .int (nI t)), (3, .int (nI k))]) F.x F.cd dX11_fewest_56 rfl hl (by decide) rfl (fun ls hl => ?_)
                  refine lv_iinc (k := 4) (v := (nI (k + 1))) (lv' := [(3, .int (nI (k + 1))), (2, .int (oI (fwl f t (k + 1)))), (4, .int (bI (flt (pops k) (fwl f t k)))), (0, .ref h), (1, .int (nI t))]) F.x F.cd dX11_fewest_57 hl rfl (inc_nI k 1) (by decide) rfl (fun ls hl => ?_)
                  refine lv_goto (tgt := 4) F.x F.cd dX11_fewest_60 (by decide) ?_
                  exact ih4 (k + 1) (by omega)  H locs ls hW (lv_sub hl [3, 4, 1, 0] rfl)
                · refine s_getsN F hW (v := .ref (gA g 3)) (List.mem_of_getElem? (i := 4) rfl) q880 (fun _ h9 => h9) dX11_fewest_47 ?_
                  refine lv_iload_n F.x F.cd dX11_fewest_50 rfl (lv_at hl 4 rfl) ?_
                  refine n_iald (i := k) (n := 256) (f := (fun j => nI (pops j))) (x := (nI (pops k))) F hW (hW.1.old F.cs F.cs.2.2.2.2.1) (by omega) (by omega) (rfl) dX11_fewest_51 ?_
                  refine lv_goto (tgt := 56) F.x F.cd dX11_fewest_52 (by decide) ?_
                  refine W.eq (g2 := F0 m_ 56 ls (.int (oI (fwl f t (k + 1))) :: [])) (by rw [show fwl f t (k + 1) = some (pops k) by rw [fwl, if_pos (by rw [Bool.and_eq_true]; exact ⟨c_39, c_44⟩)]]; rfl) ?_
                  refine lv_istore_n (lv' := [(2, .int (oI (fwl f t (k + 1)))), (4, .int (bI (flt (pops k) (fwl f t k)))), (0, .ref h), (1, .int (nI t)), (3, .int (nI k))]) F.x F.cd dX11_fewest_56 rfl hl (by decide) rfl (fun ls hl => ?_)
                  refine lv_iinc (k := 4) (v := (nI (k + 1))) (lv' := [(3, .int (nI (k + 1))), (2, .int (oI (fwl f t (k + 1)))), (4, .int (bI (flt (pops k) (fwl f t k)))), (0, .ref h), (1, .int (nI t))]) F.x F.cd dX11_fewest_57 hl rfl (inc_nI k 1) (by decide) rfl (fun ls hl => ?_)
                  refine lv_goto (tgt := 4) F.x F.cd dX11_fewest_60 (by decide) ?_
                  exact ih4 (k + 1) (by omega)  H locs ls hW (lv_sub hl [3, 4, 1, 0] rfl)
            · refine lv_iconst (v := (nI 1)) F.x F.cd dX11_fewest_26 (by decide) ?_
              refine lv_goto (tgt := 31) F.x F.cd dX11_fewest_27 (by decide) ?_
              refine W.eq (g2 := F0 m_ 31 ls (.int (bI (flt (pops k) (fwl f t k))) :: [])) (by rw [show flt (pops k) (fwl f t k) = true by rw [hf]; first | rfl | (simp [flt]; omega)]; rfl) ?_
              refine lv_istore (lv' := [(4, .int (bI (flt (pops k) (fwl f t k)))), (0, .ref h), (1, .int (nI t)), (2, .int (nI w)), (3, .int (nI k))]) F.x F.cd dX11_fewest_31 hl (by decide) rfl (fun ls hl => ?_)
              refine lv_aload_n F.x F.cd dX11_fewest_33 rfl (lv_at hl 1 rfl) ?_
              refine lv_iload_n F.x F.cd dX11_fewest_34 rfl (lv_at hl 2 rfl) ?_
              refine lv_iload_n F.x F.cd dX11_fewest_35 rfl (lv_at hl 4 rfl) ?_
              refine s_callV (As := [.int (nI t), .int (nI k)]) (rest := []) (C := RX11) (T := TX11) (N := 2) (n := 2) F hW (k_X11_has g l σ h ba n st f t k (e0) (eb) hn (by omega) (by omega)) (e0) rfl q886 q887 q888 q109 q889 rfl (by decide +kernel) rfl ⟨⟨Nat.le_of_ble_eq_true rfl, Nat.le_of_ble_eq_true rfl⟩, ⟨(Nat.le_of_ble_eq_true rfl), (Nat.le_of_ble_eq_true rfl)⟩⟩ (Nat.le_of_ble_eq_true rfl) hl.1 rfl dX11_fewest_36 cX_no (fun r3 σ3 H locs hp3 hW => ?_)
              obtain ⟨rfl, hs3⟩ := hp3
              rw [hs3] at hW
              refine W.eq (g2 := F0 m_ 39 ls (.int (bI (lbit (f (4 * t + k / 64)) k)) :: [])) rfl ?_
              refine b_if_eq (b := (lbit (f (4 * t + k / 64)) k)) (tgt := 55) F dX11_fewest_39 (by decide) (fun c_39 => ?_) (fun c_39 => ?_)
              · refine lv_iload_n F.x F.cd dX11_fewest_55 rfl (lv_at hl 3 rfl) ?_
                refine W.eq (g2 := F0 m_ 56 ls (.int (oI (fwl f t (k + 1))) :: [])) (by rw [show fwl f t (k + 1) = fwl f t k by rw [fwl, if_neg (by rw [show (rhas f t k && flt (pops k) (fwl f t k)) = false by rw [show rhas f t k = false from c_39, Bool.false_and]]; decide)], hf]; rfl) ?_
                refine lv_istore_n (lv' := [(2, .int (oI (fwl f t (k + 1)))), (4, .int (bI (flt (pops k) (fwl f t k)))), (0, .ref h), (1, .int (nI t)), (3, .int (nI k))]) F.x F.cd dX11_fewest_56 rfl hl (by decide) rfl (fun ls hl => ?_)
                refine lv_iinc (k := 4) (v := (nI (k + 1))) (lv' := [(3, .int (nI (k + 1))), (2, .int (oI (fwl f t (k + 1)))), (4, .int (bI (flt (pops k) (fwl f t k)))), (0, .ref h), (1, .int (nI t))]) F.x F.cd dX11_fewest_57 hl rfl (inc_nI k 1) (by decide) rfl (fun ls hl => ?_)
                refine lv_goto (tgt := 4) F.x F.cd dX11_fewest_60 (by decide) ?_
                exact ih4 (k + 1) (by omega)  H locs ls hW (lv_sub hl [3, 4, 1, 0] rfl)
              · refine lv_iload F.x F.cd dX11_fewest_42 (lv_at hl 0 rfl) ?_
                refine b_if_eq (b := (flt (pops k) (fwl f t k))) (tgt := 55) F dX11_fewest_44 (by decide) (fun c_44 => ?_) (fun c_44 => ?_)
                · refine lv_iload_n F.x F.cd dX11_fewest_55 rfl (lv_at hl 3 rfl) ?_
                  refine W.eq (g2 := F0 m_ 56 ls (.int (oI (fwl f t (k + 1))) :: [])) (by rw [show fwl f t (k + 1) = fwl f t k by rw [fwl, if_neg (by rw [show (rhas f t k && flt (pops k) (fwl f t k)) = false by rw [c_44, Bool.and_false]]; decide)], hf]; rfl) ?_
                  refine lv_istore_n (lv' := [(2, .int (oI (fwl f t (k + 1)))), (4, .int (bI (flt (pops k) (fwl f t k)))), (0, .ref h), (1, .int (nI t)), (3, .int (nI k))]) F.x F.cd dX11_fewest_56 rfl hl (by decide) rfl (fun ls hl => ?_)
                  refine lv_iinc (k := 4) (v := (nI (k + 1))) (lv' := [(3, .int (nI (k + 1))), (2, .int (oI (fwl f t (k + 1)))), (4, .int (bI (flt (pops k) (fwl f t k)))), (0, .ref h), (1, .int (nI t))]) F.x F.cd dX11_fewest_57 hl rfl (inc_nI k 1) (by decide) rfl (fun ls hl => ?_)
                  refine lv_goto (tgt := 4) F.x F.cd dX11_fewest_60 (by decide) ?_
                  exact ih4 (k + 1) (by omega)  H locs ls hW (lv_sub hl [3, 4, 1, 0] rfl)
                · refine s_getsN F hW (v := .ref (gA g 3)) (List.mem_of_getElem? (i := 4) rfl) q880 (fun _ h9 => h9) dX11_fewest_47 ?_
                  refine lv_iload_n F.x F.cd dX11_fewest_50 rfl (lv_at hl 4 rfl) ?_
                  refine n_iald (i := k) (n := 256) (f := (fun j => nI (pops j))) (x := (nI (pops k))) F hW (hW.1.old F.cs F.cs.2.2.2.2.1) (by omega) (by omega) (rfl) dX11_fewest_51 ?_
                  refine lv_goto (tgt := 56) F.x F.cd dX11_fewest_52 (by decide) ?_
                  refine W.eq (g2 := F0 m_ 56 ls (.int (oI (fwl f t (k + 1))) :: [])) (by rw [show fwl f t (k + 1) = some (pops k) by rw [fwl, if_pos (by rw [Bool.and_eq_true]; exact ⟨c_39, c_44⟩)]]; rfl) ?_
                  refine lv_istore_n (lv' := [(2, .int (oI (fwl f t (k + 1)))), (4, .int (bI (flt (pops k) (fwl f t k)))), (0, .ref h), (1, .int (nI t)), (3, .int (nI k))]) F.x F.cd dX11_fewest_56 rfl hl (by decide) rfl (fun ls hl => ?_)
                  refine lv_iinc (k := 4) (v := (nI (k + 1))) (lv' := [(3, .int (nI (k + 1))), (2, .int (oI (fwl f t (k + 1)))), (4, .int (bI (flt (pops k) (fwl f t k)))), (0, .ref h), (1, .int (nI t))]) F.x F.cd dX11_fewest_57 hl rfl (inc_nI k 1) (by decide) rfl (fun ls hl => ?_)
                  refine lv_goto (tgt := 4) F.x F.cd dX11_fewest_60 (by decide) ?_
                  exact ih4 (k + 1) (by omega)  H locs ls hW (lv_sub hl [3, 4, 1, 0] rfl)
  exact loop4 (st + 1) 0 (by omega)  H locs ls hW (lv_sub hl [2, 3, 1, 0] rfl)
