/-! ===== Works: widths ===== -/
set_option maxRecDepth 100000
set_option maxHeartbeats 4000000 in
theorem k_X2_widest (g : Gh) (l : Launch) (σ : Sto) (wa da n : Nat) (Aw : Nat → Nat) (D : Nat → Bool) (ew : σ wa = some (eI g 0 n (fun j => nI (Aw j)))) (ed : σ da = some (eI g 2 n (fun j => bI (D j)))) (hn : n ≤ 8) (hAb : ∀ j, Aw j ≤ 4) : Ct g l yX2_widest cX2_widest 5 (some .int) ({ frames := 0, cells := 0, slots := 0, locals := 0 } : Room) [.ref wa, .ref da] σ (fun r σ' => r = some (.int (oI (wst Aw D n))) ∧ σ' = σ) (nox) := by
  refine Ct.body (by decide) (Nat.le_of_ble_eq_true rfl) ?_
  intro p_ e_ s_ m_ args_ below_ meth_ c_ ls H locs Q F hW hl hQ
  have hl : lv_has ls 5 [(0, .ref wa), (1, .ref da)] := hl
  refine lv_iconst (v := (-1 : Int32)) F.x F.cd dX2_widest_0 (by decide) ?_
  refine lv_istore_n (lv' := [(2, .int (-1 : Int32)), (0, .ref wa), (1, .ref da)]) F.x F.cd dX2_widest_1 rfl hl (by decide) rfl (fun ls hl => ?_)
  refine lv_iconst (v := (nI 0)) F.x F.cd dX2_widest_2 (by decide) ?_
  refine lv_istore_n (lv' := [(3, .int (nI 0)), (2, .int (-1 : Int32)), (0, .ref wa), (1, .ref da)]) F.x F.cd dX2_widest_3 rfl hl (by decide) rfl (fun ls hl => ?_)
  have loop4 : ∀ (z : Nat) (k : Nat), k + z = n → ∀ (H : Heap) (locs : List Loc) (ls : Array Slot), Hl g σ H locs → lv_has ls 5 [(0, .ref wa), (1, .ref da), (2, .int (oI (wst Aw D k))), (3, .int (nI k))] → W p_ l e_ ({ frames := 0, cells := 0, slots := 0, locals := 0 } : Room) s_ m_ args_ below_ meth_ c_ H locs 0 0 Q (F0 m_ 4 ls ([])) := by
    intro z
    induction z with
    | zero =>
      intro k hkz  H locs ls hW hl
      refine lv_iload_n F.x F.cd dX2_widest_4 rfl (lv_at hl 3 rfl) ?_
      refine lv_aload_n F.x F.cd dX2_widest_5 rfl (lv_at hl 0 rfl) ?_
      refine s_alen F hW (ew) 0 rfl (v := nI n) rfl dX2_widest_6 ?_
      refine n_icmp_ge (a := k) (b := n) (tgt := 60) F (by omega) (by omega) dX2_widest_7 (by decide) (fun c_7 => ?_) (fun c_7 => ?_)
      · refine lv_iload_n F.x F.cd dX2_widest_60 rfl (lv_at hl 2 rfl) ?_
        subst hQ
        exact s_reti (v := (oI (wst Aw D k))) F hW rfl (⟨by rw [show k = n by omega], rfl⟩) ⟨(Nat.le_of_ble_eq_true rfl), (Nat.le_of_ble_eq_true rfl)⟩ dX2_widest_61
      · exact absurd c_7 (by omega)
    | succ z ih4 =>
      intro k hkz  H locs ls hW hl
      refine lv_iload_n F.x F.cd dX2_widest_4 rfl (lv_at hl 3 rfl) ?_
      refine lv_aload_n F.x F.cd dX2_widest_5 rfl (lv_at hl 0 rfl) ?_
      refine s_alen F hW (ew) 0 rfl (v := nI n) rfl dX2_widest_6 ?_
      refine n_icmp_ge (a := k) (b := n) (tgt := 60) F (by omega) (by omega) dX2_widest_7 (by decide) (fun c_7 => ?_) (fun c_7 => ?_)
      · exact absurd c_7 (by omega)
      · have hk4 := hAb k
        have hsp := wst_spec (W := Aw) (D := D) k
        rcases hf : wst Aw D k with _ | t
        · rw [hf] at hl hsp
          have hl : lv_has ls 5 [(0, .ref wa), (1, .ref da), (2, .int (-1 : Int32)), (3, .int (nI k))] := hl
          refine lv_iload_n F.x F.cd dX2_widest_10 rfl (lv_at hl 2 rfl) ?_
          refine lv_iconst (v := (-1 : Int32)) F.x F.cd dX2_widest_11 (by decide) ?_
          refine lv_icmp_eq (x := (-1 : Int32)) (y := (-1 : Int32)) (tgt := 24) F.x F.cd dX2_widest_12 (by decide) (fun c_12 => ?_) (fun c_12 => ?_)
          · refine lv_iconst (v := (nI 1)) F.x F.cd dX2_widest_24 (by decide) ?_
            refine lv_goto (tgt := 29) F.x F.cd dX2_widest_25 (by decide) ?_
            refine W.eq (g2 := F0 m_ 29 ls (.int (bI (wlt Aw k (wst Aw D k))) :: [])) (by rw [show wlt Aw k (wst Aw D k) = true by rw [hf]; first | rfl | (simp [wlt]; omega)]; rfl) ?_
            refine lv_istore (lv' := [(4, .int (bI (wlt Aw k (wst Aw D k)))), (0, .ref wa), (1, .ref da), (2, .int (-1 : Int32)), (3, .int (nI k))]) F.x F.cd dX2_widest_29 hl (by decide) rfl (fun ls hl => ?_)
            refine lv_aload_n F.x F.cd dX2_widest_31 rfl (lv_at hl 2 rfl) ?_
            refine lv_iload_n F.x F.cd dX2_widest_32 rfl (lv_at hl 4 rfl) ?_
            refine n_zald (i := k) (n := n) (f := (fun x9 => bI (D x9))) (x := (bI (D k))) F hW (ed) (by omega) (by omega) (rfl) dX2_widest_33 ?_
            refine b_if_ne (b := (D k)) (tgt := 52) F dX2_widest_34 (by decide) (fun c_34 => ?_) (fun c_34 => ?_)
            · refine lv_iload_n F.x F.cd dX2_widest_52 rfl (lv_at hl 3 rfl) ?_
              refine W.eq (g2 := F0 m_ 53 ls (.int (oI (wst Aw D (k + 1))) :: [])) (by rw [show wst Aw D (k + 1) = wst Aw D k by rw [wst, if_neg (by simp [c_34])], hf]; rfl) ?_
              refine lv_istore_n (lv' := [(2, .int (oI (wst Aw D (k + 1)))), (4, .int (bI (wlt Aw k (wst Aw D k)))), (0, .ref wa), (1, .ref da), (3, .int (nI k))]) F.x F.cd dX2_widest_53 rfl hl (by decide) rfl (fun ls hl => ?_)
              refine lv_iinc (k := 4) (v := (nI (k + 1))) (lv' := [(3, .int (nI (k + 1))), (2, .int (oI (wst Aw D (k + 1)))), (4, .int (bI (wlt Aw k (wst Aw D k)))), (0, .ref wa), (1, .ref da)]) F.x F.cd dX2_widest_54 hl rfl (inc_nI k 1) (by decide) rfl (fun ls hl => ?_)
              refine lv_goto (tgt := 4) F.x F.cd dX2_widest_57 (by decide) ?_
              exact ih4 (k + 1) (by omega)  H locs ls hW (lv_sub hl [3, 4, 1, 0] rfl)
            · refine lv_aload_n F.x F.cd dX2_widest_37 rfl (lv_at hl 1 rfl) ?_
              refine lv_iload_n F.x F.cd dX2_widest_38 rfl (lv_at hl 4 rfl) ?_
              refine n_iald (i := k) (n := n) (f := (fun x9 => nI (Aw x9))) (x := (nI (Aw k))) F hW (ew) (by omega) (by omega) (rfl) dX2_widest_39 ?_
              refine n_if_le (a := Aw k) (tgt := 52) F (by omega) dX2_widest_40 (by decide) (fun c_40 => ?_) (fun c_40 => ?_)
              · refine lv_iload_n F.x F.cd dX2_widest_52 rfl (lv_at hl 3 rfl) ?_
                refine W.eq (g2 := F0 m_ 53 ls (.int (oI (wst Aw D (k + 1))) :: [])) (by rw [show wst Aw D (k + 1) = wst Aw D k by rw [wst, if_neg (by simp [c_40])], hf]; rfl) ?_
                refine lv_istore_n (lv' := [(2, .int (oI (wst Aw D (k + 1)))), (4, .int (bI (wlt Aw k (wst Aw D k)))), (0, .ref wa), (1, .ref da), (3, .int (nI k))]) F.x F.cd dX2_widest_53 rfl hl (by decide) rfl (fun ls hl => ?_)
                refine lv_iinc (k := 4) (v := (nI (k + 1))) (lv' := [(3, .int (nI (k + 1))), (2, .int (oI (wst Aw D (k + 1)))), (4, .int (bI (wlt Aw k (wst Aw D k)))), (0, .ref wa), (1, .ref da)]) F.x F.cd dX2_widest_54 hl rfl (inc_nI k 1) (by decide) rfl (fun ls hl => ?_)
                refine lv_goto (tgt := 4) F.x F.cd dX2_widest_57 (by decide) ?_
                exact ih4 (k + 1) (by omega)  H locs ls hW (lv_sub hl [3, 4, 1, 0] rfl)
              · refine lv_iload F.x F.cd dX2_widest_43 (lv_at hl 0 rfl) ?_
                refine b_if_eq (b := (wlt Aw k (wst Aw D k))) (tgt := 52) F dX2_widest_45 (by decide) (fun c_45 => ?_) (fun c_45 => ?_)
                · refine lv_iload_n F.x F.cd dX2_widest_52 rfl (lv_at hl 3 rfl) ?_
                  refine W.eq (g2 := F0 m_ 53 ls (.int (oI (wst Aw D (k + 1))) :: [])) (by rw [show wst Aw D (k + 1) = wst Aw D k by rw [wst, if_neg (by simp [c_45])], hf]; rfl) ?_
                  refine lv_istore_n (lv' := [(2, .int (oI (wst Aw D (k + 1)))), (4, .int (bI (wlt Aw k (wst Aw D k)))), (0, .ref wa), (1, .ref da), (3, .int (nI k))]) F.x F.cd dX2_widest_53 rfl hl (by decide) rfl (fun ls hl => ?_)
                  refine lv_iinc (k := 4) (v := (nI (k + 1))) (lv' := [(3, .int (nI (k + 1))), (2, .int (oI (wst Aw D (k + 1)))), (4, .int (bI (wlt Aw k (wst Aw D k)))), (0, .ref wa), (1, .ref da)]) F.x F.cd dX2_widest_54 hl rfl (inc_nI k 1) (by decide) rfl (fun ls hl => ?_)
                  refine lv_goto (tgt := 4) F.x F.cd dX2_widest_57 (by decide) ?_
                  exact ih4 (k + 1) (by omega)  H locs ls hW (lv_sub hl [3, 4, 1, 0] rfl)
                · refine lv_iload_n F.x F.cd dX2_widest_48 rfl (lv_at hl 4 rfl) ?_
                  refine lv_goto (tgt := 53) F.x F.cd dX2_widest_49 (by decide) ?_
                  refine W.eq (g2 := F0 m_ 53 ls (.int (oI (wst Aw D (k + 1))) :: [])) (by rw [show wst Aw D (k + 1) = some k by rw [wst, if_pos (by rw [Bool.and_eq_true, Bool.and_eq_true]; exact ⟨by rw [c_34]; rfl, decide_eq_true (by omega), c_45⟩)]]; rfl) ?_
                  refine lv_istore_n (lv' := [(2, .int (oI (wst Aw D (k + 1)))), (4, .int (bI (wlt Aw k (wst Aw D k)))), (0, .ref wa), (1, .ref da), (3, .int (nI k))]) F.x F.cd dX2_widest_53 rfl hl (by decide) rfl (fun ls hl => ?_)
                  refine lv_iinc (k := 4) (v := (nI (k + 1))) (lv' := [(3, .int (nI (k + 1))), (2, .int (oI (wst Aw D (k + 1)))), (4, .int (bI (wlt Aw k (wst Aw D k)))), (0, .ref wa), (1, .ref da)]) F.x F.cd dX2_widest_54 hl rfl (inc_nI k 1) (by decide) rfl (fun ls hl => ?_)
                  refine lv_goto (tgt := 4) F.x F.cd dX2_widest_57 (by decide) ?_
                  exact ih4 (k + 1) (by omega)  H locs ls hW (lv_sub hl [3, 4, 1, 0] rfl)
          · exact absurd rfl c_12
        · rw [hf] at hl hsp
          have ht4 := hAb t
          have htk : t < k := hsp.1
          have hl : lv_has ls 5 [(0, .ref wa), (1, .ref da), (2, .int (nI t)), (3, .int (nI k))] := hl
          refine lv_iload_n F.x F.cd dX2_widest_10 rfl (lv_at hl 2 rfl) ?_
          refine lv_iconst (v := (-1 : Int32)) F.x F.cd dX2_widest_11 (by decide) ?_
          refine lv_icmp_eq (x := (nI t)) (y := (-1 : Int32)) (tgt := 24) F.x F.cd dX2_widest_12 (by decide) (fun c_12 => ?_) (fun c_12 => ?_)
          · exact absurd c_12 (nI_neg (by omega))
          · refine lv_aload_n F.x F.cd dX2_widest_15 rfl (lv_at hl 0 rfl) ?_
            refine lv_iload_n F.x F.cd dX2_widest_16 rfl (lv_at hl 3 rfl) ?_
            refine n_iald (i := k) (n := n) (f := (fun x9 => nI (Aw x9))) (x := (nI (Aw k))) F hW (ew) (by omega) (by omega) (rfl) dX2_widest_17 ?_
            refine lv_aload_n F.x F.cd dX2_widest_18 rfl (lv_at hl 0 rfl) ?_
            refine lv_iload_n F.x F.cd dX2_widest_19 rfl (lv_at hl 2 rfl) ?_
            refine n_iald (i := t) (n := n) (f := (fun x9 => nI (Aw x9))) (x := (nI (Aw t))) F hW (ew) (by omega) (by omega) (rfl) dX2_widest_20 ?_
            refine n_icmp_le (a := Aw k) (b := Aw t) (tgt := 28) F (by omega) (by omega) dX2_widest_21 (by decide) (fun c_21 => ?_) (fun c_21 => ?_)
            · refine lv_iconst (v := (nI 0)) F.x F.cd dX2_widest_28 (by decide) ?_
              refine W.eq (g2 := F0 m_ 29 ls (.int (bI (wlt Aw k (wst Aw D k))) :: [])) (by rw [show wlt Aw k (wst Aw D k) = false by rw [hf]; first | rfl | (simp [wlt]; omega)]; rfl) ?_
              refine lv_istore (lv' := [(4, .int (bI (wlt Aw k (wst Aw D k)))), (0, .ref wa), (1, .ref da), (2, .int (nI t)), (3, .int (nI k))]) F.x F.cd dX2_widest_29 hl (by decide) rfl (fun ls hl => ?_)
              refine lv_aload_n F.x F.cd dX2_widest_31 rfl (lv_at hl 2 rfl) ?_
              refine lv_iload_n F.x F.cd dX2_widest_32 rfl (lv_at hl 4 rfl) ?_
              refine n_zald (i := k) (n := n) (f := (fun x9 => bI (D x9))) (x := (bI (D k))) F hW (ed) (by omega) (by omega) (rfl) dX2_widest_33 ?_
              refine b_if_ne (b := (D k)) (tgt := 52) F dX2_widest_34 (by decide) (fun c_34 => ?_) (fun c_34 => ?_)
              · refine lv_iload_n F.x F.cd dX2_widest_52 rfl (lv_at hl 3 rfl) ?_
                refine W.eq (g2 := F0 m_ 53 ls (.int (oI (wst Aw D (k + 1))) :: [])) (by rw [show wst Aw D (k + 1) = wst Aw D k by rw [wst, if_neg (by simp [c_34])], hf]; rfl) ?_
                refine lv_istore_n (lv' := [(2, .int (oI (wst Aw D (k + 1)))), (4, .int (bI (wlt Aw k (wst Aw D k)))), (0, .ref wa), (1, .ref da), (3, .int (nI k))]) F.x F.cd dX2_widest_53 rfl hl (by decide) rfl (fun ls hl => ?_)
                refine lv_iinc (k := 4) (v := (nI (k + 1))) (lv' := [(3, .int (nI (k + 1))), (2, .int (oI (wst Aw D (k + 1)))), (4, .int (bI (wlt Aw k (wst Aw D k)))), (0, .ref wa), (1, .ref da)]) F.x F.cd dX2_widest_54 hl rfl (inc_nI k 1) (by decide) rfl (fun ls hl => ?_)
                refine lv_goto (tgt := 4) F.x F.cd dX2_widest_57 (by decide) ?_
                exact ih4 (k + 1) (by omega)  H locs ls hW (lv_sub hl [3, 4, 1, 0] rfl)
              · refine lv_aload_n F.x F.cd dX2_widest_37 rfl (lv_at hl 1 rfl) ?_
                refine lv_iload_n F.x F.cd dX2_widest_38 rfl (lv_at hl 4 rfl) ?_
                refine n_iald (i := k) (n := n) (f := (fun x9 => nI (Aw x9))) (x := (nI (Aw k))) F hW (ew) (by omega) (by omega) (rfl) dX2_widest_39 ?_
                refine n_if_le (a := Aw k) (tgt := 52) F (by omega) dX2_widest_40 (by decide) (fun c_40 => ?_) (fun c_40 => ?_)
                · refine lv_iload_n F.x F.cd dX2_widest_52 rfl (lv_at hl 3 rfl) ?_
                  refine W.eq (g2 := F0 m_ 53 ls (.int (oI (wst Aw D (k + 1))) :: [])) (by rw [show wst Aw D (k + 1) = wst Aw D k by rw [wst, if_neg (by simp [c_40])], hf]; rfl) ?_
                  refine lv_istore_n (lv' := [(2, .int (oI (wst Aw D (k + 1)))), (4, .int (bI (wlt Aw k (wst Aw D k)))), (0, .ref wa), (1, .ref da), (3, .int (nI k))]) F.x F.cd dX2_widest_53 rfl hl (by decide) rfl (fun ls hl => ?_)
                  refine lv_iinc (k := 4) (v := (nI (k + 1))) (lv' := [(3, .int (nI (k + 1))), (2, .int (oI (wst Aw D (k + 1)))), (4, .int (bI (wlt Aw k (wst Aw D k)))), (0, .ref wa), (1, .ref da)]) F.x F.cd dX2_widest_54 hl rfl (inc_nI k 1) (by decide) rfl (fun ls hl => ?_)
                  refine lv_goto (tgt := 4) F.x F.cd dX2_widest_57 (by decide) ?_
                  exact ih4 (k + 1) (by omega)  H locs ls hW (lv_sub hl [3, 4, 1, 0] rfl)
                · refine lv_iload F.x F.cd dX2_widest_43 (lv_at hl 0 rfl) ?_
                  refine b_if_eq (b := (wlt Aw k (wst Aw D k))) (tgt := 52) F dX2_widest_45 (by decide) (fun c_45 => ?_) (fun c_45 => ?_)
                  · refine lv_iload_n F.x F.cd dX2_widest_52 rfl (lv_at hl 3 rfl) ?_
                    refine W.eq (g2 := F0 m_ 53 ls (.int (oI (wst Aw D (k + 1))) :: [])) (by rw [show wst Aw D (k + 1) = wst Aw D k by rw [wst, if_neg (by simp [c_45])], hf]; rfl) ?_
                    refine lv_istore_n (lv' := [(2, .int (oI (wst Aw D (k + 1)))), (4, .int (bI (wlt Aw k (wst Aw D k)))), (0, .ref wa), (1, .ref da), (3, .int (nI k))]) F.x F.cd dX2_widest_53 rfl hl (by decide) rfl (fun ls hl => ?_)
                    refine lv_iinc (k := 4) (v := (nI (k + 1))) (lv' := [(3, .int (nI (k + 1))), (2, .int (oI (wst Aw D (k + 1)))), (4, .int (bI (wlt Aw k (wst Aw D k)))), (0, .ref wa), (1, .ref da)]) F.x F.cd dX2_widest_54 hl rfl (inc_nI k 1) (by decide) rfl (fun ls hl => ?_)
                    refine lv_goto (tgt := 4) F.x F.cd dX2_widest_57 (by decide) ?_
                    exact ih4 (k + 1) (by omega)  H locs ls hW (lv_sub hl [3, 4, 1, 0] rfl)
                  · refine lv_iload_n F.x F.cd dX2_widest_48 rfl (lv_at hl 4 rfl) ?_
                    refine lv_goto (tgt := 53) F.x F.cd dX2_widest_49 (by decide) ?_
                    refine W.eq (g2 := F0 m_ 53 ls (.int (oI (wst Aw D (k + 1))) :: [])) (by rw [show wst Aw D (k + 1) = some k by rw [wst, if_pos (by rw [Bool.and_eq_true, Bool.and_eq_true]; exact ⟨by rw [c_34]; rfl, decide_eq_true (by omega), c_45⟩)]]; rfl) ?_
                    refine lv_istore_n (lv' := [(2, .int (oI (wst Aw D (k + 1)))), (4, .int (bI (wlt Aw k (wst Aw D k)))), (0, .ref wa), (1, .ref da), (3, .int (nI k))]) F.x F.cd dX2_widest_53 rfl hl (by decide) rfl (fun ls hl => ?_)
                    refine lv_iinc (k := 4) (v := (nI (k + 1))) (lv' := [(3, .int (nI (k + 1))), (2, .int (oI (wst Aw D (k + 1)))), (4, .int (bI (wlt Aw k (wst Aw D k)))), (0, .ref wa), (1, .ref da)]) F.x F.cd dX2_widest_54 hl rfl (inc_nI k 1) (by decide) rfl (fun ls hl => ?_)
                    refine lv_goto (tgt := 4) F.x F.cd dX2_widest_57 (by decide) ?_
                    exact ih4 (k + 1) (by omega)  H locs ls hW (lv_sub hl [3, 4, 1, 0] rfl)
            · refine lv_iconst (v := (nI 1)) F.x F.cd dX2_widest_24 (by decide) ?_
              refine lv_goto (tgt := 29) F.x F.cd dX2_widest_25 (by decide) ?_
              refine W.eq (g2 := F0 m_ 29 ls (.int (bI (wlt Aw k (wst Aw D k))) :: [])) (by rw [show wlt Aw k (wst Aw D k) = true by rw [hf]; first | rfl | (simp [wlt]; omega)]; rfl) ?_
              refine lv_istore (lv' := [(4, .int (bI (wlt Aw k (wst Aw D k)))), (0, .ref wa), (1, .ref da), (2, .int (nI t)), (3, .int (nI k))]) F.x F.cd dX2_widest_29 hl (by decide) rfl (fun ls hl => ?_)
              refine lv_aload_n F.x F.cd dX2_widest_31 rfl (lv_at hl 2 rfl) ?_
              refine lv_iload_n F.x F.cd dX2_widest_32 rfl (lv_at hl 4 rfl) ?_
              refine n_zald (i := k) (n := n) (f := (fun x9 => bI (D x9))) (x := (bI (D k))) F hW (ed) (by omega) (by omega) (rfl) dX2_widest_33 ?_
              refine b_if_ne (b := (D k)) (tgt := 52) F dX2_widest_34 (by decide) (fun c_34 => ?_) (fun c_34 => ?_)
              · refine lv_iload_n F.x F.cd dX2_widest_52 rfl (lv_at hl 3 rfl) ?_
                refine W.eq (g2 := F0 m_ 53 ls (.int (oI (wst Aw D (k + 1))) :: [])) (by rw [show wst Aw D (k + 1) = wst Aw D k by rw [wst, if_neg (by simp [c_34])], hf]; rfl) ?_
                refine lv_istore_n (lv' := [(2, .int (oI (wst Aw D (k + 1)))), (4, .int (bI (wlt Aw k (wst Aw D k)))), (0, .ref wa), (1, .ref da), (3, .int (nI k))]) F.x F.cd dX2_widest_53 rfl hl (by decide) rfl (fun ls hl => ?_)
                refine lv_iinc (k := 4) (v := (nI (k + 1))) (lv' := [(3, .int (nI (k + 1))), (2, .int (oI (wst Aw D (k + 1)))), (4, .int (bI (wlt Aw k (wst Aw D k)))), (0, .ref wa), (1, .ref da)]) F.x F.cd dX2_widest_54 hl rfl (inc_nI k 1) (by decide) rfl (fun ls hl => ?_)
                refine lv_goto (tgt := 4) F.x F.cd dX2_widest_57 (by decide) ?_
                exact ih4 (k + 1) (by omega)  H locs ls hW (lv_sub hl [3, 4, 1, 0] rfl)
              · refine lv_aload_n F.x F.cd dX2_widest_37 rfl (lv_at hl 1 rfl) ?_
                refine lv_iload_n F.x F.cd dX2_widest_38 rfl (lv_at hl 4 rfl) ?_
                refine n_iald (i := k) (n := n) (f := (fun x9 => nI (Aw x9))) (x := (nI (Aw k))) F hW (ew) (by omega) (by omega) (rfl) dX2_widest_39 ?_
                refine n_if_le (a := Aw k) (tgt := 52) F (by omega) dX2_widest_40 (by decide) (fun c_40 => ?_) (fun c_40 => ?_)
                · refine lv_iload_n F.x F.cd dX2_widest_52 rfl (lv_at hl 3 rfl) ?_
                  refine W.eq (g2 := F0 m_ 53 ls (.int (oI (wst Aw D (k + 1))) :: [])) (by rw [show wst Aw D (k + 1) = wst Aw D k by rw [wst, if_neg (by simp [c_40])], hf]; rfl) ?_
                  refine lv_istore_n (lv' := [(2, .int (oI (wst Aw D (k + 1)))), (4, .int (bI (wlt Aw k (wst Aw D k)))), (0, .ref wa), (1, .ref da), (3, .int (nI k))]) F.x F.cd dX2_widest_53 rfl hl (by decide) rfl (fun ls hl => ?_)
                  refine lv_iinc (k := 4) (v := (nI (k + 1))) (lv' := [(3, .int (nI (k + 1))), (2, .int (oI (wst Aw D (k + 1)))), (4, .int (bI (wlt Aw k (wst Aw D k)))), (0, .ref wa), (1, .ref da)]) F.x F.cd dX2_widest_54 hl rfl (inc_nI k 1) (by decide) rfl (fun ls hl => ?_)
                  refine lv_goto (tgt := 4) F.x F.cd dX2_widest_57 (by decide) ?_
                  exact ih4 (k + 1) (by omega)  H locs ls hW (lv_sub hl [3, 4, 1, 0] rfl)
                · refine lv_iload F.x F.cd dX2_widest_43 (lv_at hl 0 rfl) ?_
                  refine b_if_eq (b := (wlt Aw k (wst Aw D k))) (tgt := 52) F dX2_widest_45 (by decide) (fun c_45 => ?_) (fun c_45 => ?_)
                  · refine lv_iload_n F.x F.cd dX2_widest_52 rfl (lv_at hl 3 rfl) ?_
                    refine W.eq (g2 := F0 m_ 53 ls (.int (oI (wst Aw D (k + 1))) :: [])) (by rw [show wst Aw D (k + 1) = wst Aw D k by rw [wst, if_neg (by simp [c_45])], hf]; rfl) ?_
                    refine lv_istore_n (lv' := [(2, .int (oI (wst Aw D (k + 1)))), (4, .int (bI (wlt Aw k (wst Aw D k)))), (0, .ref wa), (1, .ref da), (3, .int (nI k))]) F.x F.cd dX2_widest_53 rfl hl (by decide) rfl (fun ls hl => ?_)
                    refine lv_iinc (k := 4) (v := (nI (k + 1))) (lv' := [(3, .int (nI (k + 1))), (2, .int (oI (wst Aw D (k + 1)))), (4, .int (bI (wlt Aw k (wst Aw D k)))), (0, .ref wa), (1, .ref da)]) F.x F.cd dX2_widest_54 hl rfl (inc_nI k 1) (by decide) rfl (fun ls hl => ?_)
                    refine lv_goto (tgt := 4) F.x F.cd dX2_widest_57 (by decide) ?_
                    exact ih4 (k + 1) (by omega)  H locs ls hW (lv_sub hl [3, 4, 1, 0] rfl)
                  · refine lv_iload_n F.x F.cd dX2_widest_48 rfl (lv_at hl 4 rfl) ?_
                    refine lv_goto (tgt := 53) F.x F.cd dX2_widest_49 (by decide) ?_
                    refine W.eq (g2 := F0 m_ 53 ls (.int (oI (wst Aw D (k + 1))) :: [])) (by rw [show wst Aw D (k + 1) = some k by rw [wst, if_pos (by rw [Bool.and_eq_true, Bool.and_eq_true]; exact ⟨by rw [c_34]; rfl, decide_eq_true (by omega), c_45⟩)]]; rfl) ?_
                    refine lv_istore_n (lv' := [(2, .int (oI (wst Aw D (k + 1)))), (4, .int (bI (wlt Aw k (wst Aw D k)))), (0, .ref wa), (1, .ref da), (3, .int (nI k))]) F.x F.cd dX2_widest_53 rfl hl (by decide) rfl (fun ls hl => ?_)
                    refine lv_iinc (k := 4) (v := (nI (k + 1))) (lv' := [(3, .int (nI (k + 1))), (2, .int (oI (wst Aw D (k + 1)))), (4, .int (bI (wlt Aw k (wst Aw D k)))), (0, .ref wa), (1, .ref da)]) F.x F.cd dX2_widest_54 hl rfl (inc_nI k 1) (by decide) rfl (fun ls hl => ?_)
                    refine lv_goto (tgt := 4) F.x F.cd dX2_widest_57 (by decide) ?_
                    exact ih4 (k + 1) (by omega)  H locs ls hW (lv_sub hl [3, 4, 1, 0] rfl)
  exact loop4 (n) 0 (by omega)  H locs ls hW (lv_sub hl [2, 3, 1, 0] rfl)
set_option maxHeartbeats 4000000 in
theorem k_X2_widths (g : Gh) (l : Launch) (σ : Sto) (L v : Nat → Nat) (a : Nat) (hWk : IsWorks g σ L v) (hI : Inv v) (ha : a < v 0) : Ct g l yX2_widths cX2_widths 8 (some (.array .int)) ({ frames := 3, cells := 2, slots := 16, locals := 64 } : Room) [.ref (L 0), .int (nI a)] σ (fun r σ' => ∃ (q : Nat) (Aw : Nat → Nat), r = some (.ref q) ∧ σ' q = some (eI g 0 (v 0) (fun j => nI (Aw j))) ∧ Ext σ σ' ∧ ∀ j, j < v 0 → Aw j = wid v a j) (nox) := by
  refine Ct.body (by decide) (Nat.le_of_ble_eq_true rfl) ?_
  intro p_ e_ s_ m_ args_ below_ meth_ c_ ls H locs Q F hW hl hQ
  have hl : lv_has ls 8 [(0, .ref (L 0)), (1, .int (nI a))] := hl
  have hT := hWk.2.2.1
  have hP := hWk.2.2.2.1
  obtain ⟨mcT, nT, fT, eT, bT, -⟩ := id hT
  obtain ⟨mcP, nP, fP, eP, bP, -⟩ := id hP
  have hv0 := hI.1
  have hv1 := hI.2.1
  refine lv_aload_n F.x F.cd dX2_widths_0 rfl (lv_at hl 0 rfl) ?_
  refine s_get F hW (ci := 1) (C := RX2) (T := TX2) (N := 6) (v := .ref (L 1)) (hWk.1) rfl in_X2 0 (by decide) q159 (fun _ h9 => h9) rfl dX2_widths_1 ?_
  refine s_callF (As := []) (rest := []) (C := RJ2) (T := TJ2) (N := 3) (n := 0) F hW (k_J2_size g l σ _ _ _ _ hT) (eT) rfl (List.mem_of_getElem? (i := 0) rfl) q317 q272 q274 q72 q276 (by decide +kernel) rfl ⟨⟨Nat.le_of_ble_eq_true rfl, Nat.le_of_ble_eq_true rfl⟩, ⟨(Nat.le_of_ble_eq_true rfl), (Nat.le_of_ble_eq_true rfl)⟩⟩ (Nat.le_of_ble_eq_true rfl) hl.1 rfl dX2_widths_4 cX_no (fun r1 σ1 H locs hp1 hW => ?_)
  obtain ⟨rfl, hs1⟩ := hp1
  rw [hs1] at hW
  refine W.eq (g2 := F0 m_ 9 ls (.int (nI (v 0)) :: [])) rfl ?_
  refine s_newa F hW 0 (N := v 0) (atype := .int) (ty := .int) rfl rfl rfl q699 (v 0, .inl (fun _ => 0)) rfl (nI_pos (by omega)) (nI_clamp (by omega)) (by show _ * 4 ≤ _; omega) (Nat.le_of_ble_eq_true rfl) (Nat.le_trans (m := 8) (by show 0 + v 0 ≤ _; omega) (Nat.le_of_ble_eq_true rfl)) dX2_widths_9 (fun q2_ H hb_q2_ hn_q2_ hW => ?_)
  refine W.widen (k := 1) (n := 8) (Nat.le_of_ble_eq_true rfl) (by show 0 + v 0 ≤ _; omega) ?_
  obtain ⟨σ3, hσ3⟩ : ∃ z, z = sset σ q2_ (eI g 0 (v 0) (fun x9 => nI ((fun _ => 0) x9))) := ⟨_, rfl⟩
  have hW : Hl g σ3 H locs := by rw [hσ3]; exact hW
  have w3 : σ3 q2_ = some (eI g 0 (v 0) (fun x9 => nI ((fun _ => 0) x9))) := by rw [hσ3]; exact sset_eq
  have f4 : σ3 (L 0) = some (.inr (1, [.ref (L 1), .ref (L 2), .int (nI (v 2)), .int (nI (v 3)), .int (nI (v 4)), .int (nI (v 5))])) := by rw [hσ3, sset_ne (sto_ne0 hn_q2_ hWk.1)]; exact hWk.1
  have f5 : σ3 (L 1) = some (.inr (2, [.int mcT, .ref (L 3), .int (nI (v 0))])) := by rw [hσ3, sset_ne (sto_ne0 hn_q2_ eT)]; exact eT
  have j6 := IsList.new (e := eI g 0 (v 0) (fun x9 => nI ((fun _ => 0) x9))) (hT) (hn_q2_)
  rw [← hσ3] at j6
  have f7 : σ3 (L 2) = some (.inr (2, [.int mcP, .ref (L 4), .int (nI (v 1))])) := by rw [hσ3, sset_ne (sto_ne0 hn_q2_ eP)]; exact eP
  have j8 := IsList.new (e := eI g 0 (v 0) (fun x9 => nI ((fun _ => 0) x9))) (hP) (hn_q2_)
  rw [← hσ3] at j8
  refine lv_astore_n (lv' := [(2, .ref q2_), (0, .ref (L 0)), (1, .int (nI a))]) F.x F.cd dX2_widths_11 rfl hl (by decide) rfl (fun ls hl => ?_)
  refine lv_aload_n F.x F.cd dX2_widths_12 rfl (lv_at hl 1 rfl) ?_
  refine s_get F hW (ci := 1) (C := RX2) (T := TX2) (N := 6) (v := .ref (L 1)) (f4) rfl in_X2 0 (by decide) q159 (fun _ h9 => h9) rfl dX2_widths_13 ?_
  refine s_callF (As := []) (rest := []) (C := RJ2) (T := TJ2) (N := 3) (n := 0) F hW (k_J2_size g l σ3 _ _ _ _ j6) (f5) rfl (List.mem_of_getElem? (i := 0) rfl) q317 q272 q274 q72 q276 (by decide +kernel) rfl ⟨⟨Nat.le_of_ble_eq_true rfl, Nat.le_of_ble_eq_true rfl⟩, ⟨(Nat.le_of_ble_eq_true rfl), (Nat.le_of_ble_eq_true rfl)⟩⟩ (Nat.le_of_ble_eq_true rfl) hl.1 rfl dX2_widths_16 cX_no (fun r9 σ9 H locs hp9 hW => ?_)
  obtain ⟨rfl, hs9⟩ := hp9
  rw [hs9] at hW
  refine W.eq (g2 := F0 m_ 21 ls (.int (nI (v 0)) :: [])) rfl ?_
  refine s_newa F hW 2 (N := v 0) (atype := .boolean) (ty := .boolean) rfl rfl rfl q315 (v 0, .inl (fun _ => 0)) rfl (nI_pos (by omega)) (nI_clamp (by omega)) (by show _ * 1 ≤ _; omega) (Nat.le_of_ble_eq_true rfl) (Nat.le_trans (m := 16) (by show 8 + v 0 ≤ _; omega) (Nat.le_of_ble_eq_true rfl)) dX2_widths_21 (fun q10_ H hb_q10_ hn_q10_ hW => ?_)
  refine W.widen (k := 2) (n := 16) (Nat.le_of_ble_eq_true rfl) (by show 8 + v 0 ≤ _; omega) ?_
  obtain ⟨σ11, hσ11⟩ : ∃ z, z = sset σ3 q10_ (eI g 2 (v 0) (fun x9 => nI ((fun _ => 0) x9))) := ⟨_, rfl⟩
  have hW : Hl g σ11 H locs := by rw [hσ11]; exact hW
  have w11 : σ11 q10_ = some (eI g 2 (v 0) (fun x9 => nI ((fun _ => 0) x9))) := by rw [hσ11]; exact sset_eq
  have f12 : σ11 (L 0) = some (.inr (1, [.ref (L 1), .ref (L 2), .int (nI (v 2)), .int (nI (v 3)), .int (nI (v 4)), .int (nI (v 5))])) := by rw [hσ11, sset_ne (sto_ne0 hn_q10_ f4)]; exact f4
  have f13 : σ11 (L 1) = some (.inr (2, [.int mcT, .ref (L 3), .int (nI (v 0))])) := by rw [hσ11, sset_ne (sto_ne0 hn_q10_ f5)]; exact f5
  have j14 := IsList.new (e := eI g 2 (v 0) (fun x9 => nI ((fun _ => 0) x9))) (j6) (hn_q10_)
  rw [← hσ11] at j14
  have f15 : σ11 (L 2) = some (.inr (2, [.int mcP, .ref (L 4), .int (nI (v 1))])) := by rw [hσ11, sset_ne (sto_ne0 hn_q10_ f7)]; exact f7
  have j16 := IsList.new (e := eI g 2 (v 0) (fun x9 => nI ((fun _ => 0) x9))) (j8) (hn_q10_)
  rw [← hσ11] at j16
  have f17 : σ11 q2_ = some (eI g 0 (v 0) (fun x9 => nI ((fun _ => 0) x9))) := by rw [hσ11, sset_ne (sto_ne0 hn_q10_ w3)]; exact w3
  refine lv_astore_n (lv' := [(3, .ref q10_), (2, .ref q2_), (0, .ref (L 0)), (1, .int (nI a))]) F.x F.cd dX2_widths_23 rfl hl (by decide) rfl (fun ls hl => ?_)
  have hxw : σ q2_ = none := hn_q2_
  have hxd : σ q10_ = none := (Ext.new hxw).none (by have h9 := hn_q10_; rw [hσ3] at h9; exact h9)
  have hX0 : Ext σ σ11 := by rw [hσ11, hσ3]; exact (Ext.new hxw).set hxd
  have hdw : q10_ ≠ q2_ := fun e9 => by have h9 := hn_q10_; rw [e9, w3] at h9; cases h9
  refine lv_aload_n F.x F.cd dX2_widths_24 rfl (lv_at hl 1 rfl) ?_
  refine lv_iload_n F.x F.cd dX2_widths_25 rfl (lv_at hl 3 rfl) ?_
  refine lv_iconst (v := (nI 4)) F.x F.cd dX2_widths_26 (by decide) ?_
  refine n_iastN (i := a) F hW (f17) (hb_q2_) (by omega) (by omega) dX2_widths_27 (fun H locs hW => ?_)
  obtain ⟨σ18, hσ18⟩ : ∃ z, z = sset σ11 q2_ (eI g 0 (v 0) (fun x9 => nI ((va_up (fun _ => 0) a 4) x9))) := ⟨_, rfl⟩
  have hW : Hl g σ18 H locs := by rw [hσ18]; exact hW
  have w18 : σ18 q2_ = some (eI g 0 (v 0) (fun x9 => nI ((va_up (fun _ => 0) a 4) x9))) := by rw [hσ18]; exact sset_eq
  have f19 : σ18 (L 0) = some (.inr (1, [.ref (L 1), .ref (L 2), .int (nI (v 2)), .int (nI (v 3)), .int (nI (v 4)), .int (nI (v 5))])) := by rw [hσ18, sset_ne (sto_ne0 hn_q2_ hWk.1)]; exact f12
  have f20 : σ18 (L 1) = some (.inr (2, [.int mcT, .ref (L 3), .int (nI (v 0))])) := by rw [hσ18, sset_ne (sto_ne0 hn_q2_ eT)]; exact f13
  have j21 := IsList.setI (e := eI g 0 (v 0) (fun x9 => nI ((va_up (fun _ => 0) a 4) x9))) (j14) (f17)
  rw [← hσ18] at j21
  have f22 : σ18 (L 2) = some (.inr (2, [.int mcP, .ref (L 4), .int (nI (v 1))])) := by rw [hσ18, sset_ne (sto_ne0 hn_q2_ eP)]; exact f15
  have j23 := IsList.setI (e := eI g 0 (v 0) (fun x9 => nI ((va_up (fun _ => 0) a 4) x9))) (j16) (f17)
  rw [← hσ18] at j23
  have f24 : σ18 q10_ = some (eI g 2 (v 0) (fun x9 => bI ((fun _ => false) x9))) := by rw [hσ18, sset_ne (Ne.symm (sto_ne0 hn_q10_ w3))]; exact w11
  have hX1 : Ext σ σ18 := by rw [hσ18]; exact hX0.set hxw
  have hew1 := w18
  have hed1 : σ18 q10_ = some (eI g 2 (v 0) (fun j => bI ((fun _ => false) j))) := f24
  refine lv_iload_n F.x F.cd dX2_widths_28 rfl (lv_at hl 3 rfl) ?_
  refine lv_istore (lv' := [(4, .int (nI a)), (3, .ref q10_), (2, .ref q2_), (0, .ref (L 0)), (1, .int (nI a))]) F.x F.cd dX2_widths_29 hl (by decide) rfl (fun ls hl => ?_)
  have hl : lv_has ls 8 [(4, .int (oI (wst (va_up (fun _ => 0) a 4) (fun _ => false) (v 0)))), (3, .ref q10_), (2, .ref q2_), (0, .ref (L 0)), (1, .int (nI a))] := by rw [wst_start ha]; exact hl
  have loop31 : ∀ (n : Nat) (k : Nat) (σk : Sto) (Aw : Nat → Nat) (D : Nat → Bool) (t0 : Nat), k + n = v 0 → Ext σ σk → σk q2_ = some (eI g 0 (v 0) (fun j => nI (Aw j))) → σk q10_ = some (eI g 2 (v 0) (fun j => bI (D j))) → WD v a Aw D t0 (v 1) → unvN D (v 0) ≤ n → ∀ (H : Heap) (locs : List Loc) (ls : Array Slot), Hl g σk H locs → lv_has ls 8 [(0, .ref (L 0)), (2, .ref q2_), (3, .ref q10_), (4, .int (oI (wst Aw D (v 0))))] → W p_ l e_ ({ frames := 3, cells := 2, slots := 16, locals := 64 } : Room) s_ m_ args_ below_ meth_ c_ H locs 2 16 Q (F0 m_ 31 ls ([])) := by
    intro n
    induction n with
    | zero =>
      intro k σk Aw D t0 hkn hXk hew hed hWD hcnt H locs ls hW hl
      have hWn := hWk.ext hXk
      have hT_k := hWn.2.2.1
      have hP_k := hWn.2.2.2.1
      obtain ⟨mcT_k, nT_k, fT_k, eT_k, bT_k, -⟩ := id hT_k
      obtain ⟨mcP_k, nP_k, fP_k, eP_k, bP_k, -⟩ := id hP_k
      have hv0_k := hI.1
      have hv1_k := hI.2.1
      have hsp := wst_spec (W := Aw) (D := D) (v 0)
      rcases hf : wst Aw D (v 0) with _ | t
      · rw [hf] at hl hsp
        have hl : lv_has ls 8 [(0, .ref (L 0)), (2, .ref q2_), (3, .ref q10_), (4, .int (-1 : Int32))] := hl
        refine lv_iload F.x F.cd dX2_widths_31 (lv_at hl 3 rfl) ?_
        refine lv_iconst (v := (-1 : Int32)) F.x F.cd dX2_widths_33 (by decide) ?_
        refine lv_icmp_eq (x := (-1 : Int32)) (y := (-1 : Int32)) (tgt := 133) F.x F.cd dX2_widths_34 (by decide) (fun c_34 => ?_) (fun c_34 => ?_)
        · refine lv_aload_n F.x F.cd dX2_widths_133 rfl (lv_at hl 1 rfl) ?_
          subst hQ
          exact s_reta F hW (Or.inr ⟨_, rfl⟩) (Or.inr ⟨_, rfl⟩) (⟨q2_, Aw, rfl, hew, hXk, fun j hj => hWD.fin hI ha hsp hj⟩) ⟨(Nat.le_of_ble_eq_true rfl), (Nat.le_of_ble_eq_true rfl)⟩ dX2_widths_134
        · exact absurd rfl c_34
      · rw [hf] at hl hsp
        obtain ⟨htv, hDt, htp, hmax⟩ := hsp
        have hl : lv_has ls 8 [(0, .ref (L 0)), (2, .ref q2_), (3, .ref q10_), (4, .int (nI t))] := hl
        exact absurd (unvN_0 (R := D) (v 0) (by omega) t htv) (by rw [hDt]; decide)
    | succ n ih31 =>
      intro k σk Aw D t0 hkn hXk hew hed hWD hcnt H locs ls hW hl
      have hWn := hWk.ext hXk
      have hT_k := hWn.2.2.1
      have hP_k := hWn.2.2.2.1
      obtain ⟨mcT_k, nT_k, fT_k, eT_k, bT_k, -⟩ := id hT_k
      obtain ⟨mcP_k, nP_k, fP_k, eP_k, bP_k, -⟩ := id hP_k
      have hv0_k := hI.1
      have hv1_k := hI.2.1
      have hsp := wst_spec (W := Aw) (D := D) (v 0)
      rcases hf : wst Aw D (v 0) with _ | t
      · rw [hf] at hl hsp
        have hl : lv_has ls 8 [(0, .ref (L 0)), (2, .ref q2_), (3, .ref q10_), (4, .int (-1 : Int32))] := hl
        refine lv_iload F.x F.cd dX2_widths_31 (lv_at hl 3 rfl) ?_
        refine lv_iconst (v := (-1 : Int32)) F.x F.cd dX2_widths_33 (by decide) ?_
        refine lv_icmp_eq (x := (-1 : Int32)) (y := (-1 : Int32)) (tgt := 133) F.x F.cd dX2_widths_34 (by decide) (fun c_34 => ?_) (fun c_34 => ?_)
        · refine lv_aload_n F.x F.cd dX2_widths_133 rfl (lv_at hl 1 rfl) ?_
          subst hQ
          exact s_reta F hW (Or.inr ⟨_, rfl⟩) (Or.inr ⟨_, rfl⟩) (⟨q2_, Aw, rfl, hew, hXk, fun j hj => hWD.fin hI ha hsp hj⟩) ⟨(Nat.le_of_ble_eq_true rfl), (Nat.le_of_ble_eq_true rfl)⟩ dX2_widths_134
        · exact absurd rfl c_34
      · rw [hf] at hl hsp
        obtain ⟨htv, hDt, htp, hmax⟩ := hsp
        have hl : lv_has ls 8 [(0, .ref (L 0)), (2, .ref q2_), (3, .ref q10_), (4, .int (nI t))] := hl
        refine lv_iload F.x F.cd dX2_widths_31 (lv_at hl 3 rfl) ?_
        refine lv_iconst (v := (-1 : Int32)) F.x F.cd dX2_widths_33 (by decide) ?_
        refine lv_icmp_eq (x := (nI t)) (y := (-1 : Int32)) (tgt := 133) F.x F.cd dX2_widths_34 (by decide) (fun c_34 => ?_) (fun c_34 => ?_)
        · exact absurd c_34 (nI_neg (by omega))
        · refine lv_aload_n F.x F.cd dX2_widths_37 rfl (lv_at hl 2 rfl) ?_
          refine lv_iload F.x F.cd dX2_widths_38 (lv_at hl 3 rfl) ?_
          refine lv_iconst (v := (nI 1)) F.x F.cd dX2_widths_40 (by decide) ?_
          refine n_zast (i := t) F hW (hed) (hb_q10_) (by omega) (by omega) (show narrow .boolean (.int (nI 1)) = .int (nI 1) by decide) dX2_widths_41 (fun H locs hW => ?_)
          obtain ⟨σ25, hσ25⟩ : ∃ z, z = sset σk q10_ (eI g 2 (v 0) (upd (fun x9 => bI (D x9)) t (nI 1))) := ⟨_, rfl⟩
          have hW : Hl g σ25 H locs := by rw [hσ25]; exact hW
          have w25 : σ25 q10_ = some (eI g 2 (v 0) (upd (fun x9 => bI (D x9)) t (nI 1))) := by rw [hσ25]; exact sset_eq
          have f26 : σ25 (L 0) = some (.inr (1, [.ref (L 1), .ref (L 2), .int (nI (v 2)), .int (nI (v 3)), .int (nI (v 4)), .int (nI (v 5))])) := by rw [hσ25, sset_ne (sto_ne hed hWn.1 (by simp))]; exact hWn.1
          have f27 : σ25 (L 1) = some (.inr (2, [.int mcT_k, .ref (L 3), .int (nI (v 0))])) := by rw [hσ25, sset_ne (sto_ne hed eT_k (by simp))]; exact eT_k
          have j28 := IsList.setI (e := eI g 2 (v 0) (upd (fun x9 => bI (D x9)) t (nI 1))) (hT_k) (hed)
          rw [← hσ25] at j28
          have f29 : σ25 (L 2) = some (.inr (2, [.int mcP_k, .ref (L 4), .int (nI (v 1))])) := by rw [hσ25, sset_ne (sto_ne hed eP_k (by simp))]; exact eP_k
          have j30 := IsList.setI (e := eI g 2 (v 0) (upd (fun x9 => bI (D x9)) t (nI 1))) (hP_k) (hed)
          rw [← hσ25] at j30
          have f31 : σ25 q2_ = some (eI g 0 (v 0) (fun x9 => nI (Aw x9))) := by rw [hσ25, sset_ne (Ne.symm (hdw))]; exact hew
          have hXd : Ext σ σ25 := by rw [hσ25]; exact hXk.set hxd
          have hedd : σ25 q10_ = some (eI g 2 (v 0) (fun j => bI (va_up D t true j))) := by rw [hσ25, updB, sset_eq]
          have hewd := f31
          have hWDd := hWD.mark hDt (hWD.pick hI ha hDt rfl hmax)
          refine lv_iconst (v := (nI 0)) F.x F.cd dX2_widths_42 (by decide) ?_
          refine lv_istore (lv' := [(5, .int (nI 0)), (0, .ref (L 0)), (2, .ref q2_), (3, .ref q10_), (4, .int (nI t))]) F.x F.cd dX2_widths_43 hl (by decide) rfl (fun ls hl => ?_)
          have loop45 : ∀ (z : Nat) (j : Nat) (σj : Sto) (Aj : Nat → Nat), j + z = v 1 → Ext σ σj → σj q2_ = some (eI g 0 (v 0) (fun i => nI (Aj i))) → σj q10_ = some (eI g 2 (v 0) (fun i => bI (va_up D t true i))) → WD v a Aj (va_up D t true) t j → ∀ (H : Heap) (locs : List Loc) (ls : Array Slot), Hl g σj H locs → lv_has ls 8 [(0, .ref (L 0)), (2, .ref q2_), (3, .ref q10_), (4, .int (nI t)), (5, .int (nI j))] → W p_ l e_ ({ frames := 3, cells := 2, slots := 16, locals := 64 } : Room) s_ m_ args_ below_ meth_ c_ H locs 2 16 Q (F0 m_ 45 ls ([])) := by
            intro z
            induction z with
            | zero =>
              intro j σj Aj hkz hXj hewj hedj hWDj H locs ls hW hl
              have hWn := hWk.ext hXj
              have hAb := fun i => Nat.le_trans (hWDj.1 i) (wb_le 4)
              have hAt := hAb t
              have hT_k := hWn.2.2.1
              have hP_k := hWn.2.2.2.1
              obtain ⟨mcT_k, nT_k, fT_k, eT_k, bT_k, -⟩ := id hT_k
              obtain ⟨mcP_k, nP_k, fP_k, eP_k, bP_k, -⟩ := id hP_k
              have hv0_k := hI.1
              have hv1_k := hI.2.1
              refine lv_iload F.x F.cd dX2_widths_45 (lv_at hl 4 rfl) ?_
              refine lv_aload_n F.x F.cd dX2_widths_47 rfl (lv_at hl 0 rfl) ?_
              refine s_get F hW (ci := 1) (C := RX2) (T := TX2) (N := 6) (v := .ref (L 2)) (hWn.1) rfl in_X2 1 (by decide) q162 (fun _ h9 => h9) rfl dX2_widths_48 ?_
              refine s_callF (As := []) (rest := [.int (nI j)]) (C := RJ2) (T := TJ2) (N := 3) (n := 0) F hW (k_J2_size g l σj _ _ _ _ hP_k) (eP_k) rfl (List.mem_of_getElem? (i := 0) rfl) q317 q272 q274 q72 q276 (by decide +kernel) rfl ⟨⟨Nat.le_of_ble_eq_true rfl, Nat.le_of_ble_eq_true rfl⟩, ⟨(Nat.le_of_ble_eq_true rfl), (Nat.le_of_ble_eq_true rfl)⟩⟩ (Nat.le_of_ble_eq_true rfl) hl.1 rfl dX2_widths_51 cX_no (fun r32 σ32 H locs hp32 hW => ?_)
              obtain ⟨rfl, hs32⟩ := hp32
              rw [hs32] at hW
              refine W.eq (g2 := F0 m_ 56 ls (.int (nI (v 1)) :: .int (nI j) :: [])) rfl ?_
              refine n_icmp_ge (a := j) (b := v 1) (tgt := 123) F (by omega) (by omega) dX2_widths_56 (by decide) (fun c_56 => ?_) (fun c_56 => ?_)
              · refine lv_aload_n F.x F.cd dX2_widths_123 rfl (lv_at hl 1 rfl) ?_
                refine lv_aload_n F.x F.cd dX2_widths_124 rfl (lv_at hl 2 rfl) ?_
                refine s_callS (As := [.ref q2_, .ref q10_]) (rest := []) (n := 2) F hW (k_X2_widest g l σj q2_ q10_ (v 0) Aj (va_up D t true) (hewj) (hedj) (by omega) (fun j => Nat.le_trans (hWDj.1 j) (wb_le 4))) q854 q855 q69 q856 (by decide +kernel) rfl ⟨⟨Nat.le_of_ble_eq_true rfl, Nat.le_of_ble_eq_true rfl⟩, ⟨(Nat.le_of_ble_eq_true rfl), (Nat.le_of_ble_eq_true rfl)⟩⟩ (Nat.le_of_ble_eq_true rfl) hl.1 rfl dX2_widths_125 cX_no (fun r33 σ33 H locs hp33 hW => ?_)
                obtain ⟨rfl, hs33⟩ := hp33
                rw [hs33] at hW
                refine W.eq (g2 := F0 m_ 128 ls (.int (oI (wst Aj (va_up D t true) (v 0))) :: [])) rfl ?_
                refine lv_istore (lv' := [(4, .int (oI (wst Aj (va_up D t true) (v 0)))), (0, .ref (L 0)), (2, .ref q2_), (3, .ref q10_), (5, .int (nI j))]) F.x F.cd dX2_widths_128 hl (by decide) rfl (fun ls hl => ?_)
                refine lv_goto (tgt := 31) F.x F.cd dX2_widths_130 (by decide) ?_
                exact ih31 (k + 1) σj Aj (va_up D t true) t (by omega) (hXj) (hewj) (hedj) (by rw [← show j = v 1 by omega]; exact hWDj) (by have h9 := unvN_lt (R := D) (R' := va_up D t true) (fun i hi => by unfold va_up; split <;> first | rfl | exact hi) hDt (va_up_self _ _ _) (v 0) htv; omega) H locs ls hW (lv_sub hl [1, 2, 3, 0] rfl)
              · exact absurd c_56 (by omega)
            | succ z ih45 =>
              intro j σj Aj hkz hXj hewj hedj hWDj H locs ls hW hl
              have hWn := hWk.ext hXj
              have hAb := fun i => Nat.le_trans (hWDj.1 i) (wb_le 4)
              have hAt := hAb t
              have hT_k := hWn.2.2.1
              have hP_k := hWn.2.2.2.1
              obtain ⟨mcT_k, nT_k, fT_k, eT_k, bT_k, -⟩ := id hT_k
              obtain ⟨mcP_k, nP_k, fP_k, eP_k, bP_k, -⟩ := id hP_k
              have hv0_k := hI.1
              have hv1_k := hI.2.1
              refine lv_iload F.x F.cd dX2_widths_45 (lv_at hl 4 rfl) ?_
              refine lv_aload_n F.x F.cd dX2_widths_47 rfl (lv_at hl 0 rfl) ?_
              refine s_get F hW (ci := 1) (C := RX2) (T := TX2) (N := 6) (v := .ref (L 2)) (hWn.1) rfl in_X2 1 (by decide) q162 (fun _ h9 => h9) rfl dX2_widths_48 ?_
              refine s_callF (As := []) (rest := [.int (nI j)]) (C := RJ2) (T := TJ2) (N := 3) (n := 0) F hW (k_J2_size g l σj _ _ _ _ hP_k) (eP_k) rfl (List.mem_of_getElem? (i := 0) rfl) q317 q272 q274 q72 q276 (by decide +kernel) rfl ⟨⟨Nat.le_of_ble_eq_true rfl, Nat.le_of_ble_eq_true rfl⟩, ⟨(Nat.le_of_ble_eq_true rfl), (Nat.le_of_ble_eq_true rfl)⟩⟩ (Nat.le_of_ble_eq_true rfl) hl.1 rfl dX2_widths_51 cX_no (fun r34 σ34 H locs hp34 hW => ?_)
              obtain ⟨rfl, hs34⟩ := hp34
              rw [hs34] at hW
              refine W.eq (g2 := F0 m_ 56 ls (.int (nI (v 1)) :: .int (nI j) :: [])) rfl ?_
              refine n_icmp_ge (a := j) (b := v 1) (tgt := 123) F (by omega) (by omega) dX2_widths_56 (by decide) (fun c_56 => ?_) (fun c_56 => ?_)
              · exact absurd c_56 (by omega)
              · have hpq := hI.pp (q := j) (by omega)
                have hAo := hAb (oth (pA v j) (pB v j) t)
                refine lv_aload_n F.x F.cd dX2_widths_59 rfl (lv_at hl 0 rfl) ?_
                refine s_get F hW (ci := 1) (C := RX2) (T := TX2) (N := 6) (v := .ref (L 2)) (hWn.1) rfl in_X2 1 (by decide) q162 (fun _ h9 => h9) rfl dX2_widths_60 ?_
                refine lv_iload F.x F.cd dX2_widths_63 (lv_at hl 4 rfl) ?_
                refine s_callF (As := [.int (nI j)]) (rest := []) (C := RJ2) (T := TJ2) (N := 3) (n := 1) F hW (k_J2_get g l σj _ _ _ _ j hP_k (by omega)) (eP_k) rfl (List.mem_of_getElem? (i := 1) rfl) q693 q328 q330 q72 q332 (by decide +kernel) rfl ⟨⟨Nat.le_of_ble_eq_true rfl, Nat.le_of_ble_eq_true rfl⟩, ⟨(Nat.le_of_ble_eq_true rfl), (Nat.le_of_ble_eq_true rfl)⟩⟩ (Nat.le_of_ble_eq_true rfl) hl.1 rfl dX2_widths_65 cX_no (fun r35 σ35 H locs hp35 hW => ?_)
                obtain ⟨rfl, hs35⟩ := hp35
                rw [hs35] at hW
                refine W.eq (g2 := F0 m_ 70 ls (.ref (L (100 + j)) :: [])) rfl ?_
                refine s_cast_ F hW (C := RX5) (T := TX5) (N := 7) ((hWn.2.2.2.2.2.1 j (by omega)).1) rfl q694 dX2_widths_70 ?_
                refine lv_astore (lv' := [(6, .ref (L (100 + j))), (0, .ref (L 0)), (2, .ref q2_), (3, .ref q10_), (4, .int (nI t)), (5, .int (nI j))]) F.x F.cd dX2_widths_73 hl (by decide) rfl (fun ls hl => ?_)
                refine lv_aload F.x F.cd dX2_widths_75 (lv_at hl 0 rfl) ?_
                refine lv_iload F.x F.cd dX2_widths_77 (lv_at hl 4 rfl) ?_
                refine s_callV (As := [.int (nI t)]) (rest := []) (C := RX5) (T := TX5) (N := 7) (n := 1) F hW (k_X5_leadsFrom g l σj (L (100 + j)) (pA v j) (pB v j) (pM v j) (pV v j) (pR v j) (pD v j) (pL v j) t ((hWn.2.2.2.2.2.1 j (by omega)).1) (by omega) (by omega) (by omega) (by omega) (by omega)) ((hWn.2.2.2.2.2.1 j (by omega)).1) rfl q845 q846 q847 q96 q848 rfl (by decide +kernel) rfl ⟨⟨Nat.le_of_ble_eq_true rfl, Nat.le_of_ble_eq_true rfl⟩, ⟨(Nat.le_of_ble_eq_true rfl), (Nat.le_of_ble_eq_true rfl)⟩⟩ (Nat.le_of_ble_eq_true rfl) hl.1 rfl dX2_widths_79 cX_no (fun r36 σ36 H locs hp36 hW => ?_)
                obtain ⟨rfl, hs36⟩ := hp36
                rw [hs36] at hW
                refine W.eq (g2 := F0 m_ 82 ls (.int (bI (opn (pV v j) (pD v j) && tch (pA v j) (pB v j) t)) :: [])) rfl ?_
                refine b_if_eq (b := (opn (pV v j) (pD v j) && tch (pA v j) (pB v j) t)) (tgt := 117) F dX2_widths_82 (by decide) (fun c_82 => ?_) (fun c_82 => ?_)
                · refine lv_iinc (k := 5) (v := (nI (j + 1))) (lv' := [(5, .int (nI (j + 1))), (6, .ref (L (100 + j))), (0, .ref (L 0)), (2, .ref q2_), (3, .ref q10_), (4, .int (nI t))]) F.x F.cd dX2_widths_117 hl rfl (inc_nI j 1) (by decide) rfl (fun ls hl => ?_)
                  refine lv_goto (tgt := 45) F.x F.cd dX2_widths_120 (by decide) ?_
                  exact ih45 (j + 1) σj Aj (by omega) (hXj) (hewj) (hedj) (hWDj.skip c_82) H locs ls hW (lv_sub hl [2, 3, 4, 5, 0] rfl)
                · refine lv_aload F.x F.cd dX2_widths_85 (lv_at hl 0 rfl) ?_
                  refine lv_iload F.x F.cd dX2_widths_87 (lv_at hl 4 rfl) ?_
                  refine s_callV (As := [.int (nI t)]) (rest := []) (C := RX5) (T := TX5) (N := 7) (n := 1) F hW (k_X5_otherEnd g l σj (L (100 + j)) (pA v j) (pB v j) (pM v j) (pV v j) (pR v j) (pD v j) (pL v j) t ((hWn.2.2.2.2.2.1 j (by omega)).1) (by omega) (by omega)) ((hWn.2.2.2.2.2.1 j (by omega)).1) rfl q851 q680 q681 q96 q682 rfl (by decide +kernel) rfl ⟨⟨Nat.le_of_ble_eq_true rfl, Nat.le_of_ble_eq_true rfl⟩, ⟨(Nat.le_of_ble_eq_true rfl), (Nat.le_of_ble_eq_true rfl)⟩⟩ (Nat.le_of_ble_eq_true rfl) hl.1 rfl dX2_widths_89 cX_no (fun r37 σ37 H locs hp37 hW => ?_)
                  obtain ⟨rfl, hs37⟩ := hp37
                  rw [hs37] at hW
                  refine W.eq (g2 := F0 m_ 92 ls (.int (nI (oth (pA v j) (pB v j) t)) :: [])) rfl ?_
                  refine lv_istore (lv' := [(7, .int (nI (oth (pA v j) (pB v j) t))), (6, .ref (L (100 + j))), (0, .ref (L 0)), (2, .ref q2_), (3, .ref q10_), (4, .int (nI t)), (5, .int (nI j))]) F.x F.cd dX2_widths_92 hl (by decide) rfl (fun ls hl => ?_)
                  refine lv_aload_n F.x F.cd dX2_widths_94 rfl (lv_at hl 3 rfl) ?_
                  refine lv_iload F.x F.cd dX2_widths_95 (lv_at hl 0 rfl) ?_
                  refine lv_aload_n F.x F.cd dX2_widths_97 rfl (lv_at hl 3 rfl) ?_
                  refine lv_iload F.x F.cd dX2_widths_98 (lv_at hl 0 rfl) ?_
                  refine n_iald (i := oth (pA v j) (pB v j) t) (n := v 0) (f := (fun x9 => nI (Aj x9))) (x := (nI (Aj (oth (pA v j) (pB v j) t)))) F hW (hewj) (oth_lt hpq.1 hpq.2.1) (by omega) (rfl) dX2_widths_100 ?_
                  refine lv_aload_n F.x F.cd dX2_widths_101 rfl (lv_at hl 3 rfl) ?_
                  refine lv_iload F.x F.cd dX2_widths_102 (lv_at hl 5 rfl) ?_
                  refine n_iald (i := t) (n := v 0) (f := (fun x9 => nI (Aj x9))) (x := (nI (Aj t))) F hW (hewj) (by omega) (by omega) (rfl) dX2_widths_104 ?_
                  refine lv_aload F.x F.cd dX2_widths_105 (lv_at hl 1 rfl) ?_
                  refine s_getN F hW (ci := 9) (C := RX5) (T := TX5) (N := 7) (v := .int (nI (pV v j))) ((hWn.2.2.2.2.2.1 j (by omega)).1) rfl in_X5 3 (by decide) q1079 (fun _ h9 => h9) rfl dX2_widths_107 ?_
                  refine s_mmin (v := (nI (min (Aj t) (pV v j)))) F q852 q453 q87 q454 hl.1 (Nat.le_of_ble_eq_true rfl) (Nat.le_of_ble_eq_true rfl) (Nat.le_of_ble_eq_true rfl) (Nat.le_of_ble_eq_true rfl) (nI_min (by omega) (by omega)) dX2_widths_110 ?_
                  refine s_mmax (v := (nI (max (Aj (oth (pA v j) (pB v j) t)) (min (Aj t) (pV v j))))) F q853 q435 q87 q436 hl.1 (Nat.le_of_ble_eq_true rfl) (Nat.le_of_ble_eq_true rfl) (Nat.le_of_ble_eq_true rfl) (Nat.le_of_ble_eq_true rfl) (nI_max (by omega) (by omega)) dX2_widths_113 ?_
                  refine n_iastN (i := oth (pA v j) (pB v j) t) F hW (hewj) (hb_q2_) (oth_lt hpq.1 hpq.2.1) (by omega) dX2_widths_116 (fun H locs hW => ?_)
                  obtain ⟨σ38, hσ38⟩ : ∃ z, z = sset σj q2_ (eI g 0 (v 0) (fun x9 => nI ((va_up Aj (oth (pA v j) (pB v j) t) (max (Aj (oth (pA v j) (pB v j) t)) (min (Aj t) (pV v j)))) x9))) := ⟨_, rfl⟩
                  have hW : Hl g σ38 H locs := by rw [hσ38]; exact hW
                  have w38 : σ38 q2_ = some (eI g 0 (v 0) (fun x9 => nI ((va_up Aj (oth (pA v j) (pB v j) t) (max (Aj (oth (pA v j) (pB v j) t)) (min (Aj t) (pV v j)))) x9))) := by rw [hσ38]; exact sset_eq
                  have f39 : σ38 (L 0) = some (.inr (1, [.ref (L 1), .ref (L 2), .int (nI (v 2)), .int (nI (v 3)), .int (nI (v 4)), .int (nI (v 5))])) := by rw [hσ38, sset_ne (sto_ne hewj hWn.1 (by simp))]; exact hWn.1
                  have f40 : σ38 (L 1) = some (.inr (2, [.int mcT_k, .ref (L 3), .int (nI (v 0))])) := by rw [hσ38, sset_ne (sto_ne hewj eT_k (by simp))]; exact eT_k
                  have j41 := IsList.setI (e := eI g 0 (v 0) (fun x9 => nI ((va_up Aj (oth (pA v j) (pB v j) t) (max (Aj (oth (pA v j) (pB v j) t)) (min (Aj t) (pV v j)))) x9))) (hT_k) (hewj)
                  rw [← hσ38] at j41
                  have f42 : σ38 (L 2) = some (.inr (2, [.int mcP_k, .ref (L 4), .int (nI (v 1))])) := by rw [hσ38, sset_ne (sto_ne hewj eP_k (by simp))]; exact eP_k
                  have j43 := IsList.setI (e := eI g 0 (v 0) (fun x9 => nI ((va_up Aj (oth (pA v j) (pB v j) t) (max (Aj (oth (pA v j) (pB v j) t)) (min (Aj t) (pV v j)))) x9))) (hP_k) (hewj)
                  rw [← hσ38] at j43
                  have f44 : σ38 (L (100 + j)) = some (.inr (9, [.int (nI (pA v j)), .int (nI (pB v j)), .int (nI (pM v j)), .int (nI (pV v j)), .int (nI (pR v j)), .int (nI (pD v j)), .int (nI (pL v j))])) := by rw [hσ38, sset_ne (sto_ne hewj ((hWn.2.2.2.2.2.1 j (by omega)).1) (by simp))]; exact (hWn.2.2.2.2.2.1 j (by omega)).1
                  have f45 : σ38 q10_ = some (eI g 2 (v 0) (fun x9 => bI ((va_up D t true) x9))) := by rw [hσ38, sset_ne (hdw)]; exact hedj
                  refine lv_iinc (k := 6) (v := (nI (j + 1))) (lv' := [(5, .int (nI (j + 1))), (7, .int (nI (oth (pA v j) (pB v j) t))), (6, .ref (L (100 + j))), (0, .ref (L 0)), (2, .ref q2_), (3, .ref q10_), (4, .int (nI t))]) F.x F.cd dX2_widths_117 hl rfl (inc_nI j 1) (by decide) rfl (fun ls hl => ?_)
                  refine lv_goto (tgt := 45) F.x F.cd dX2_widths_120 (by decide) ?_
                  exact ih45 (j + 1) σ38 _ (by omega) (by rw [hσ38]; exact hXj.set hxw) (w38) (f45) (hWDj.relax hI ha (by omega) (va_up_self _ _ _) c_82) H locs ls hW (lv_sub hl [3, 4, 5, 6, 0] rfl)
          exact loop45 (v 1) 0 _ _ (by omega) (hXd) (hewd) (hedd) (hWDd) H locs ls hW (lv_sub hl [1, 2, 3, 4, 0] rfl)
  exact loop31 (v 0) 0 _ _ _ 0 (by omega) (hX1) (hew1) (hed1) (WD.start hI ha) (unvN_b _) H locs ls hW (lv_sub hl [3, 2, 1, 0] rfl)
