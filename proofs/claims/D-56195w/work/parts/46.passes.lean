/-! ===== passes ===== -/
set_option maxRecDepth 100000
set_option maxHeartbeats 4000000 in
theorem k_X2_passes (g : Gh) (l : Launch) (σ : Sto) (v : Nat → Nat) (h ba p n st t q : Nat) (f : Nat → Int64) (e0 : σ h = some (.inr (14, [.int (nI st), .ref ba]))) (eb : σ ba = some (eL g (4 * n) f)) (hn : n ≤ 8) (bb : gB g ≤ ba) (ep : σ p = some (pipE v q)) (hst : st < 256) (ht : t < n) (hqa : pA v q < n) (hqb : pB v q < n) (hqm : pM v q < 256) (hne : oth (pA v q) (pB v q) t ≠ t) : Ct g l yX2_passes cX2_passes 5 (some .boolean) ({ frames := 2, cells := 0, slots := 0, locals := 45 } : Room) [.ref h, .ref p, .int (nI t)] σ (fun r σ' => ∃ (f' : Nat → Int64) (nw : Bool), r = some (.int (bI nw)) ∧ σ' = sset σ ba (eL g (4 * n) f') ∧ PS v q t st f f' nw (st + 1)) (nox) := by
  refine Ct.body (by decide) (Nat.le_of_ble_eq_true rfl) ?_
  intro p_ e_ s_ m_ args_ below_ meth_ c_ ls H locs Q F hW hl hQ
  have hl : lv_has ls 5 [(0, .ref h), (1, .ref p), (2, .int (nI t))] := hl
  refine lv_iconst (v := (nI 0)) F.x F.cd dX2_passes_0 (by decide) ?_
  refine lv_istore_n (lv' := [(3, .int (nI 0)), (0, .ref h), (1, .ref p), (2, .int (nI t))]) F.x F.cd dX2_passes_1 rfl hl (by decide) rfl (fun ls hl => ?_)
  refine lv_aload_n F.x F.cd dX2_passes_2 rfl (lv_at hl 1 rfl) ?_
  refine s_getN F hW (ci := 14) (C := RX11) (T := TX11) (N := 2) (v := .int (nI st)) (e0) rfl in_X11 0 (by decide) q868 (fun _ h9 => h9) rfl dX2_passes_3 ?_
  refine lv_istore (lv' := [(4, .int (nI st)), (3, .int (nI 0)), (0, .ref h), (1, .ref p), (2, .int (nI t))]) F.x F.cd dX2_passes_6 hl (by decide) rfl (fun ls hl => ?_)
  have hl : lv_has ls 5 [(4, .int (dn st 0)), (3, .int (bI false)), (0, .ref h), (1, .ref p), (2, .int (nI t))] := by rw [show dn st 0 = nI st from if_pos (Nat.zero_le _)]; exact hl
  have loop8 : ∀ (z : Nat) (j : Nat) (σk : Sto) (fk : Nat → Int64) (nw : Bool), j + z = st + 1 → (σk = sset σ ba (eL g (4 * n) fk)) → PS v q t st f fk nw j → ∀ (H : Heap) (locs : List Loc) (ls : Array Slot), Hl g σk H locs → lv_has ls 5 [(0, .ref h), (1, .ref p), (2, .int (nI t)), (3, .int (bI nw)), (4, .int (dn st j))] → W p_ l e_ ({ frames := 2, cells := 0, slots := 0, locals := 45 } : Room) s_ m_ args_ below_ meth_ c_ H locs 0 0 Q (F0 m_ 8 ls ([])) := by
    intro z
    induction z with
    | zero =>
      intro j σk fk nw hkz hσk hPS H locs ls hW hl
      have ebk : σk ba = some (eL g (4 * n) fk) := by rw [hσk, sset_eq]
      have e0k : σk h = some (.inr (14, [.int (nI st), .ref ba])) := by rw [hσk, sset_ne (sto_ne eb e0 (by simp))]; exact e0
      have epk : σk p = some (pipE v q) := by rw [hσk, sset_ne (sto_ne eb ep (by simp))]; exact ep
      rw [show dn st j = -1 from if_neg (by omega)] at hl
      refine lv_iload F.x F.cd dX2_passes_8 (lv_at hl 4 rfl) ?_
      refine lv_if_lt (x := (-1 : Int32)) (tgt := 57) F.x F.cd dX2_passes_10 (by decide) (fun c_10 => ?_) (fun c_10 => ?_)
      · refine lv_iload_n F.x F.cd dX2_passes_57 rfl (lv_at hl 3 rfl) ?_
        subst hQ
        exact s_reti (v := (bI nw)) F hW (nar_bI _) (⟨fk, nw, rfl, hσk, by rw [← show j = st + 1 by omega]; exact hPS⟩) ⟨(Nat.le_of_ble_eq_true rfl), (Nat.le_of_ble_eq_true rfl)⟩ dX2_passes_58
      · exact absurd (by decide) c_10
    | succ z ih8 =>
      intro j σk fk nw hkz hσk hPS H locs ls hW hl
      have ebk : σk ba = some (eL g (4 * n) fk) := by rw [hσk, sset_eq]
      have e0k : σk h = some (.inr (14, [.int (nI st), .ref ba])) := by rw [hσk, sset_ne (sto_ne eb e0 (by simp))]; exact e0
      have epk : σk p = some (pipE v q) := by rw [hσk, sset_ne (sto_ne eb ep (by simp))]; exact ep
      rw [show dn st j = nI (st - j) from if_pos (by omega)] at hl
      refine lv_iload F.x F.cd dX2_passes_8 (lv_at hl 4 rfl) ?_
      refine n_if_lt (a := st - j) (tgt := 57) F (by omega) dX2_passes_10 (by decide) ?_
      refine lv_aload_n F.x F.cd dX2_passes_13 rfl (lv_at hl 0 rfl) ?_
      refine lv_iload_n F.x F.cd dX2_passes_14 rfl (lv_at hl 2 rfl) ?_
      refine lv_iload F.x F.cd dX2_passes_15 (lv_at hl 4 rfl) ?_
      refine s_callV (As := [.int (nI t), .int (nI (st - j))]) (rest := []) (C := RX11) (T := TX11) (N := 2) (n := 2) F hW (k_X11_has g l σk h ba n st fk t (st - j) (e0k) (ebk) hn (by first | omega | exact oth_lt hqa hqb) (by first | omega | exact clr_lt (by omega))) (e0k) rfl q901 q887 q888 q109 q889 rfl (by decide +kernel) rfl ⟨⟨Nat.le_of_ble_eq_true rfl, Nat.le_of_ble_eq_true rfl⟩, ⟨(Nat.le_of_ble_eq_true rfl), (Nat.le_of_ble_eq_true rfl)⟩⟩ (Nat.le_of_ble_eq_true rfl) hl.1 rfl dX2_passes_17 cX_no (fun r1 σ1 H locs hp1 hW => ?_)
      obtain ⟨rfl, hs1⟩ := hp1
      rw [hs1] at hW
      refine W.eq (g2 := F0 m_ 20 ls (.int (bI (lbit (fk (4 * t + (st - j) / 64)) (st - j))) :: [])) rfl ?_
      refine b_if_eq (b := (lbit (fk (4 * t + (st - j) / 64)) (st - j))) (tgt := 51) F dX2_passes_20 (by decide) (fun c_20 => ?_) (fun c_20 => ?_)
      · refine lv_iinc (k := 4) (v := ((nI (st - j)) + (-1))) (lv' := [(4, .int ((nI (st - j)) + (-1))), (0, .ref h), (1, .ref p), (2, .int (nI t)), (3, .int (bI nw))]) F.x F.cd dX2_passes_51 hl rfl (by rfl) (by decide) rfl (fun ls hl => ?_)
        have hl : lv_has ls 5 [(4, .int (dn st (j + 1))), (0, .ref h), (1, .ref p), (2, .int (nI t)), (3, .int (bI nw))] := by rw [← dn_succ (show j ≤ st by omega)]; exact hl
        refine lv_goto (tgt := 8) F.x F.cd dX2_passes_54 (by decide) ?_
        exact ih8 (j + 1) σk fk nw (by omega) (hσk) (hPS.skip (by omega) hst c_20) H locs ls hW (lv_sub hl [1, 2, 3, 4, 0] rfl)
      · refine lv_aload_n F.x F.cd dX2_passes_23 rfl (lv_at hl 0 rfl) ?_
        refine lv_aload_n F.x F.cd dX2_passes_24 rfl (lv_at hl 1 rfl) ?_
        refine lv_iload_n F.x F.cd dX2_passes_25 rfl (lv_at hl 2 rfl) ?_
        refine s_callV (As := [.int (nI t)]) (rest := [.ref h]) (C := RX5) (T := TX5) (N := 7) (n := 1) F hW (k_X5_otherEnd g l σk p (pA v q) (pB v q) (pM v q) (pV v q) (pR v q) (pD v q) (pL v q) t (epk) (by omega) (by omega)) (epk) rfl q851 q680 q681 q96 q682 rfl (by decide +kernel) rfl ⟨⟨Nat.le_of_ble_eq_true rfl, Nat.le_of_ble_eq_true rfl⟩, ⟨(Nat.le_of_ble_eq_true rfl), (Nat.le_of_ble_eq_true rfl)⟩⟩ (Nat.le_of_ble_eq_true rfl) hl.1 rfl dX2_passes_26 cX_no (fun r2 σ2 H locs hp2 hW => ?_)
        obtain ⟨rfl, hs2⟩ := hp2
        rw [hs2] at hW
        refine W.eq (g2 := F0 m_ 29 ls (.int (nI (oth (pA v q) (pB v q) t)) :: .ref h :: [])) rfl ?_
        refine lv_aload_n F.x F.cd dX2_passes_29 rfl (lv_at hl 1 rfl) ?_
        refine lv_iload F.x F.cd dX2_passes_30 (lv_at hl 4 rfl) ?_
        refine s_callV (As := [.int (nI (st - j))]) (rest := [.int (nI (oth (pA v q) (pB v q) t)), .ref h]) (C := RX5) (T := TX5) (N := 7) (n := 1) F hW (k_X5_cleaned g l σk p (pA v q) (pB v q) (pM v q) (pV v q) (pR v q) (pD v q) (pL v q) (st - j) (epk) (by omega) (by omega)) (epk) rfl q890 q891 q892 q96 q893 rfl (by decide +kernel) rfl ⟨⟨Nat.le_of_ble_eq_true rfl, Nat.le_of_ble_eq_true rfl⟩, ⟨(Nat.le_of_ble_eq_true rfl), (Nat.le_of_ble_eq_true rfl)⟩⟩ (Nat.le_of_ble_eq_true rfl) hl.1 rfl dX2_passes_32 cX_no (fun r3 σ3 H locs hp3 hW => ?_)
        obtain ⟨rfl, hs3⟩ := hp3
        rw [hs3] at hW
        refine W.eq (g2 := F0 m_ 35 ls (.int (nI (clr (st - j) (pM v q))) :: .int (nI (oth (pA v q) (pB v q) t)) :: .ref h :: [])) rfl ?_
        refine s_callV (As := [.int (nI (oth (pA v q) (pB v q) t)), .int (nI (clr (st - j) (pM v q)))]) (rest := []) (C := RX11) (T := TX11) (N := 2) (n := 2) F hW (k_X11_add g l σk h ba n st fk (oth (pA v q) (pB v q) t) (clr (st - j) (pM v q)) (e0k) (ebk) (by omega) (bb) (by first | omega | exact oth_lt hqa hqb) (by first | omega | exact clr_lt (by omega))) (e0k) rfl q882 q883 q884 q109 q885 rfl (by decide +kernel) rfl ⟨⟨Nat.le_of_ble_eq_true rfl, Nat.le_of_ble_eq_true rfl⟩, ⟨(Nat.le_of_ble_eq_true rfl), (Nat.le_of_ble_eq_true rfl)⟩⟩ (Nat.le_of_ble_eq_true rfl) hl.1 rfl dX2_passes_35 cX_no (fun r4 σ4 H locs hp4 hW => ?_)
        obtain ⟨rfl, hσ4⟩ := hp4
        refine W.eq (g2 := F0 m_ 38 ls (.int (bI (!rhas fk (oth (pA v q) (pB v q) t) (clr (st - j) (pM v q)))) :: [])) rfl ?_
        have w5 : σ4 ba = some (eL g (4 * n) (radd fk (oth (pA v q) (pB v q) t) (clr (st - j) (pM v q)))) := by rw [hσ4]; exact sset_eq
        have f6 : σ4 h = some (.inr (14, [.int (nI st), .ref ba])) := by rw [hσ4, sset_ne (sto_ne ebk e0k (by simp))]; exact e0k
        have f7 : σ4 p = some (.inr (9, [.int (nI (pA v q)), .int (nI (pB v q)), .int (nI (pM v q)), .int (nI (pV v q)), .int (nI (pR v q)), .int (nI (pD v q)), .int (nI (pL v q))])) := by rw [hσ4, sset_ne (sto_ne ebk epk (by simp))]; exact epk
        refine b_if_ne (b := (!rhas fk (oth (pA v q) (pB v q) t) (clr (st - j) (pM v q)))) (tgt := 45) F dX2_passes_38 (by decide) (fun c_38 => ?_) (fun c_38 => ?_)
        · refine lv_iconst (v := (nI 1)) F.x F.cd dX2_passes_45 (by decide) ?_
          refine lv_goto (tgt := 50) F.x F.cd dX2_passes_46 (by decide) ?_
          refine W.eq (g2 := F0 m_ 50 ls (.int (bI (!rhas fk (oth (pA v q) (pB v q) t) (clr (st - j) (pM v q)) || nw)) :: [])) (by rw [show (!rhas fk (oth (pA v q) (pB v q) t) (clr (st - j) (pM v q)) || nw) = true by rw [c_38, Bool.true_or]]; rfl) ?_
          refine lv_istore_n (lv' := [(3, .int (bI (!rhas fk (oth (pA v q) (pB v q) t) (clr (st - j) (pM v q)) || nw))), (0, .ref h), (1, .ref p), (2, .int (nI t)), (4, .int (nI (st - j)))]) F.x F.cd dX2_passes_50 rfl hl (by decide) rfl (fun ls hl => ?_)
          refine lv_iinc (k := 4) (v := ((nI (st - j)) + (-1))) (lv' := [(4, .int ((nI (st - j)) + (-1))), (3, .int (bI (!rhas fk (oth (pA v q) (pB v q) t) (clr (st - j) (pM v q)) || nw))), (0, .ref h), (1, .ref p), (2, .int (nI t))]) F.x F.cd dX2_passes_51 hl rfl (by rfl) (by decide) rfl (fun ls hl => ?_)
          have hl : lv_has ls 5 [(4, .int (dn st (j + 1))), (3, .int (bI (!rhas fk (oth (pA v q) (pB v q) t) (clr (st - j) (pM v q)) || nw))), (0, .ref h), (1, .ref p), (2, .int (nI t))] := by rw [← dn_succ (show j ≤ st by omega)]; exact hl
          refine lv_goto (tgt := 8) F.x F.cd dX2_passes_54 (by decide) ?_
          exact ih8 (j + 1) σ4 _ _ (by omega) (by rw [hσ4, hσk, sset_sset]; rfl) (hPS.step (by omega) hst hne hqm c_20) H locs ls hW (lv_sub hl [2, 3, 4, 1, 0] rfl)
        · refine lv_iload_n F.x F.cd dX2_passes_41 rfl (lv_at hl 3 rfl) ?_
          refine b_if_eq (b := nw) (tgt := 49) F dX2_passes_42 (by decide) (fun c_42 => ?_) (fun c_42 => ?_)
          · refine lv_iconst (v := (nI 0)) F.x F.cd dX2_passes_49 (by decide) ?_
            refine W.eq (g2 := F0 m_ 50 ls (.int (bI (!rhas fk (oth (pA v q) (pB v q) t) (clr (st - j) (pM v q)) || nw)) :: [])) (by rw [show (!rhas fk (oth (pA v q) (pB v q) t) (clr (st - j) (pM v q)) || nw) = false by rw [c_38, c_42]; rfl]; rfl) ?_
            refine lv_istore_n (lv' := [(3, .int (bI (!rhas fk (oth (pA v q) (pB v q) t) (clr (st - j) (pM v q)) || nw))), (0, .ref h), (1, .ref p), (2, .int (nI t)), (4, .int (nI (st - j)))]) F.x F.cd dX2_passes_50 rfl hl (by decide) rfl (fun ls hl => ?_)
            refine lv_iinc (k := 4) (v := ((nI (st - j)) + (-1))) (lv' := [(4, .int ((nI (st - j)) + (-1))), (3, .int (bI (!rhas fk (oth (pA v q) (pB v q) t) (clr (st - j) (pM v q)) || nw))), (0, .ref h), (1, .ref p), (2, .int (nI t))]) F.x F.cd dX2_passes_51 hl rfl (by rfl) (by decide) rfl (fun ls hl => ?_)
            have hl : lv_has ls 5 [(4, .int (dn st (j + 1))), (3, .int (bI (!rhas fk (oth (pA v q) (pB v q) t) (clr (st - j) (pM v q)) || nw))), (0, .ref h), (1, .ref p), (2, .int (nI t))] := by rw [← dn_succ (show j ≤ st by omega)]; exact hl
            refine lv_goto (tgt := 8) F.x F.cd dX2_passes_54 (by decide) ?_
            exact ih8 (j + 1) σ4 _ _ (by omega) (by rw [hσ4, hσk, sset_sset]; rfl) (hPS.step (by omega) hst hne hqm c_20) H locs ls hW (lv_sub hl [2, 3, 4, 1, 0] rfl)
          · refine lv_iconst (v := (nI 1)) F.x F.cd dX2_passes_45 (by decide) ?_
            refine lv_goto (tgt := 50) F.x F.cd dX2_passes_46 (by decide) ?_
            refine W.eq (g2 := F0 m_ 50 ls (.int (bI (!rhas fk (oth (pA v q) (pB v q) t) (clr (st - j) (pM v q)) || nw)) :: [])) (by rw [show (!rhas fk (oth (pA v q) (pB v q) t) (clr (st - j) (pM v q)) || nw) = true by rw [c_38, c_42]; rfl]; rfl) ?_
            refine lv_istore_n (lv' := [(3, .int (bI (!rhas fk (oth (pA v q) (pB v q) t) (clr (st - j) (pM v q)) || nw))), (0, .ref h), (1, .ref p), (2, .int (nI t)), (4, .int (nI (st - j)))]) F.x F.cd dX2_passes_50 rfl hl (by decide) rfl (fun ls hl => ?_)
            refine lv_iinc (k := 4) (v := ((nI (st - j)) + (-1))) (lv' := [(4, .int ((nI (st - j)) + (-1))), (3, .int (bI (!rhas fk (oth (pA v q) (pB v q) t) (clr (st - j) (pM v q)) || nw))), (0, .ref h), (1, .ref p), (2, .int (nI t))]) F.x F.cd dX2_passes_51 hl rfl (by rfl) (by decide) rfl (fun ls hl => ?_)
            have hl : lv_has ls 5 [(4, .int (dn st (j + 1))), (3, .int (bI (!rhas fk (oth (pA v q) (pB v q) t) (clr (st - j) (pM v q)) || nw))), (0, .ref h), (1, .ref p), (2, .int (nI t))] := by rw [← dn_succ (show j ≤ st by omega)]; exact hl
            refine lv_goto (tgt := 8) F.x F.cd dX2_passes_54 (by decide) ?_
            exact ih8 (j + 1) σ4 _ _ (by omega) (by rw [hσ4, hσk, sset_sset]; rfl) (hPS.step (by omega) hst hne hqm c_20) H locs ls hW (lv_sub hl [2, 3, 4, 1, 0] rfl)
  exact loop8 (st + 1) 0 _ _ _ (by omega) ((sset_id eb).symm) (PS.start) H locs ls hW (lv_sub hl [2, 3, 4, 1, 0] rfl)
