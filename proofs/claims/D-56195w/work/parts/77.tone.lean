/-! ===== the twin: one of some words ===== -/
set_option maxRecDepth 100000
def WL : List Nat := [116, 97, 110, 107, 32, 95, 112, 105, 112, 101, 32, 95, 112, 111, 117, 114, 32, 95, 100, 114, 97, 119, 32, 95, 118, 97, 108, 118, 101, 32, 95, 108, 101, 97, 107, 32, 95, 99, 108, 101, 97, 110, 32, 95, 119, 97, 105, 116, 95]
theorem WL_eq : tN "tank _pipe _pour _draw _valve _leak _clean _wait_" = WL := by decide +kernel
def wB (i : Nat) : Nat := [0, 6, 12, 18, 24, 31, 37, 44].getD i 0
def wW (i : Nat) : Nat := [5, 5, 5, 5, 6, 5, 6, 4].getD i 0
def kwL (i : Nat) : List Nat := (WL.take (wB i + wW i)).drop (wB i)
/-- how far the text at p goes with the word at b, k letters seen -/
def cpl (T : Nat → Nat) (n p b k : Nat) : Nat → Nat
  | 0 => k
  | m + 1 => if p + k < n ∧ T (p + k) = WL.getD (b + k) 0 then cpl T n p b (k + 1) m else k
theorem cpl_t {T : Nat → Nat} {n p b k m : Nat} (h : p + k < n ∧ T (p + k) = WL.getD (b + k) 0) : cpl T n p b k (m + 1) = cpl T n p b (k + 1) m := if_pos h
theorem cpl_f {T : Nat → Nat} {n p b k m : Nat} (h : ¬ (p + k < n ∧ T (p + k) = WL.getD (b + k) 0)) : cpl T n p b k (m + 1) = k := if_neg h
def cpw (T : Nat → Nat) (n p i : Nat) : Nat := cpl T n p (wB i) 0 (wW i)
theorem cpl_le {T : Nat → Nat} {n p b : Nat} : ∀ m k, cpl T n p b k m ≤ k + m
  | 0, k => Nat.le_refl _
  | m + 1, k => by
    have := cpl_le (T := T) (n := n) (p := p) (b := b) m (k + 1)
    rw [cpl]
    split <;> omega
theorem wW_le : ∀ i, i < 8 → wW i ≤ 6 := by decide
theorem cpw_le {T : Nat → Nat} {n p : Nat} (i : Nat) (h : i < 8) : cpw T n p i ≤ 6 := by
  have h1 := cpl_le (T := T) (n := n) (p := p) (b := wB i) (wW i) 0
  have h2 := wW_le i h
  unfold cpw
  omega
def farN (T : Nat → Nat) (n p : Nat) : Nat → Nat
  | 0 => 0
  | j + 1 => max (farN T n p j) (cpw T n p j)
theorem IsStr.setO {g : Gh} {σ : Sto} {a q ci : Nat} {L : List Nat} {vs : List Value} {e : va_E} (h : IsStr g σ a L) (h0 : σ q = some (.inr (ci, vs))) (hc : ci ≠ 6) : IsStr g (sset σ q e) a L := by
  obtain ⟨v, h1, z, e0, hh, ev, hL⟩ := h
  exact ⟨v, h1, z, by rw [sset_ne (sto_ne h0 e0 (by intro q; cases q; exact hc rfl))]; exact e0, hh, by rw [sset_ne (sto_ne h0 ev (by simp))]; exact ev, hL⟩
theorem IsTw.ext {g : Gh} {σ σ' : Sto} {m : Nat} {A : Nat → Nat} {iv : Nat → Int32} {wd : Nat} {ar : Nat → Nat → Nat} {rb : Nat → Bool} (h : IsTw g σ m A iv wd ar rb) (hx : Ext σ σ') : IsTw g σ' m A iv wd ar rb := by
  obtain ⟨t0, b0, a0, a1, a2, a3, a4, a5, a6, a7, hb, hi⟩ := h
  exact ⟨hx.at t0, b0, hx.at a0, hx.at a1, hx.at a2, hx.at a3, hx.at a4, hx.at a5, hx.at a6, hx.at a7, hb, hi⟩
set_option maxHeartbeats 4000000 in
theorem k_X3_isOneOf (g : Gh) (l : Launch) (σ : Sto) (m : Nat) (A : Nat → Nat) (iv : Nat → Int32) (wd : Nat) (ar : Nat → Nat → Nat) (rb : Nat → Bool) (n p : Nat) (a : Nat) (hw : IsTw g σ m A iv wd ar rb) (h10 : iv 10 = nI n) (h11 : iv 11 = nI p) (hpn : p ≤ n) (hn : n ≤ 60) (hT : ∀ j, j < n → ar 6 j < 128) (hs : IsStr g σ a WL) : Ct g l yX3_isOneOf cX3_isOneOf 6 (some .boolean) ({ frames := 5, cells := 2, slots := 132, locals := 152 } : Room) [.ref m, .ref a] σ (fun r σ' => (∃ i, i < 8 ∧ (∀ j, j < i → cpw (ar 6) n p j ≠ wW j) ∧ cpw (ar 6) n p i = wW i ∧ r = some (.int (bI true)) ∧ ∃ wd', gB g ≤ wd' ∧ IsStr g σ' wd' (kwL i) ∧ IsTw g σ' m A (va_up (va_up iv 10 (nI n)) 11 (nI (p + wW i))) wd' ar rb ∧ Fm σ σ' m A) ∨ ((∀ j, j < 8 → cpw (ar 6) n p j ≠ wW j) ∧ r = some (.int (bI false)) ∧ IsTw g σ' m A (va_up (va_up iv 10 (nI n)) 11 (nI (p + farN (ar 6) n p 8))) wd ar rb ∧ Fm σ σ' m A)) (nox) := by
  refine Ct.body (by decide) (Nat.le_of_ble_eq_true rfl) ?_
  intro p_ e_ s_ m_ args_ below_ meth_ c_ ls H locs Q F hW hl hQ
  have hl : lv_has ls 6 [(0, .ref m), (1, .ref a)] := hl
  obtain ⟨t0, tb0, ta0, ta1, ta2, ta3, ta4, ta5, ta6, ta7, tbb, tii⟩ := id hw
  have hWL : WL.length = 49 := by decide
  obtain ⟨v, h, zz, e0, hh, ev, hL⟩ := id hs
  have tw_1 : IsTw g σ m A (va_up (va_up iv 10 (nI n)) 11 (nI p)) wd ar rb := by
    rw [← h10, ← h11]
    exact ⟨t0, tb0, ta0, ta1, ta2, ta3, ta4, ta5, ta6, ta7, tbb, tii⟩
  obtain ⟨t0_1, -, ta0_1, ta1_1, ta2_1, ta3_1, ta4_1, ta5_1, ta6_1, ta7_1, -, -⟩ := id tw_1
  have hall0 : ∀ j, j < 0 → cpw (ar 6) n p j ≠ wW j := fun j hj => absurd hj (by omega)
  refine lv_iconst (v := (nI 0)) F.x F.cd dX3_isOneOf_0 (by decide) ?_
  refine lv_istore_n (lv' := [(2, .int (nI 0)), (0, .ref m), (1, .ref a)]) F.x F.cd dX3_isOneOf_1 rfl hl (by decide) rfl (fun ls hl => ?_)
  refine lv_iconst (v := (nI 0)) F.x F.cd dX3_isOneOf_2 (by decide) ?_
  refine lv_istore_n (lv' := [(3, .int (nI 0)), (2, .int (nI 0)), (0, .ref m), (1, .ref a)]) F.x F.cd dX3_isOneOf_3 rfl hl (by decide) rfl (fun ls hl => ?_)
  refine lv_iload_n F.x F.cd dX3_isOneOf_4 rfl (lv_at hl 0 rfl) ?_
  refine lv_aload_n F.x F.cd dX3_isOneOf_5 rfl (lv_at hl 3 rfl) ?_
  refine s_callV (As := []) (rest := [.int (nI 0)]) (C := RJ7) (T := TJ7) (N := 4) (n := 0) F hW (k_J7_length g l σ a WL  hs ) (e0) rfl q2699 q490 q491 q77 q492 rfl (by decide +kernel) rfl ⟨⟨Nat.le_of_ble_eq_true rfl, Nat.le_of_ble_eq_true rfl⟩, ⟨(Nat.le_of_ble_eq_true rfl), (Nat.le_of_ble_eq_true rfl)⟩⟩ (Nat.le_of_ble_eq_true rfl) hl.1 rfl dX3_isOneOf_6 cX_no (fun r2 σ2 H locs hp2 hW => ?_)
  obtain ⟨rfl, hs2⟩ := hp2
  rw [hs2] at hW
  refine W.eq (g2 := F0 m_ 9 ls (.int (nI WL.length) :: .int (nI 0) :: [])) rfl ?_
  refine W.eq (g2 := F0 m_ 9 ls (.int (nI 49) :: .int (nI 0) :: [])) (by rfl) ?_
  refine n_icmp_ge (a := 0) (b := 49) (tgt := 124) F (by omega) (by omega) dX3_isOneOf_9 (by decide) (fun c_9 => absurd c_9 (by decide)) (fun c_9 => ?_)
  refine lv_aload_n F.x F.cd dX3_isOneOf_12 rfl (lv_at hl 3 rfl) ?_
  refine lv_bipush (v := (nI 95)) F.x F.cd dX3_isOneOf_13 (by decide) ?_
  refine lv_iload_n F.x F.cd dX3_isOneOf_15 rfl (lv_at hl 0 rfl) ?_
  refine s_callV (As := [.int (nI 95), .int (nI 0)]) (rest := []) (C := RJ7) (T := TJ7) (N := 4) (n := 2) F hW (k_J7_indexOf_2 g l σ a WL 95 0 hs (by omega) (by omega) (by omega)) (e0) rfl q2700 q2701 q2702 q77 q2703 rfl (by decide +kernel) rfl ⟨⟨Nat.le_of_ble_eq_true rfl, Nat.le_of_ble_eq_true rfl⟩, ⟨(Nat.le_of_ble_eq_true rfl), (Nat.le_of_ble_eq_true rfl)⟩⟩ (Nat.le_of_ble_eq_true rfl) hl.1 rfl dX3_isOneOf_16 cX_no (fun r3 σ3 H locs hp3 hW => ?_)
  obtain ⟨rfl, hs3⟩ := hp3
  rw [hs3] at hW
  refine W.eq (g2 := F0 m_ 19 ls (.int (ixF WL 95 0 (WL.length - 0)) :: [])) rfl ?_
  refine W.eq (g2 := F0 m_ 19 ls (.int (nI 5) :: [])) (by rw [show (ixF WL 95 0 (WL.length - 0)) = nI 5 by decide +kernel]) ?_
  refine lv_istore (lv' := [(4, .int (nI 5)), (3, .int (nI 0)), (2, .int (nI 0)), (0, .ref m), (1, .ref a)]) F.x F.cd dX3_isOneOf_19 hl (by decide) rfl (fun ls hl => ?_)
  refine lv_iconst (v := (nI 0)) F.x F.cd dX3_isOneOf_21 (by decide) ?_
  refine lv_istore (lv' := [(5, .int (nI 0)), (4, .int (nI 5)), (3, .int (nI 0)), (2, .int (nI 0)), (0, .ref m), (1, .ref a)]) F.x F.cd dX3_isOneOf_22 hl (by decide) rfl (fun ls hl => ?_)
  have kont0 : ∀ (H : Heap) (locs : List Loc) (ls : Array Slot), Hl g σ H locs → lv_has ls 6 [(0, .ref m), (1, .ref a), (2, .int (nI 0)), (3, .int (nI 0)), (4, .int (nI 5)), (5, .int (nI (cpw (ar 6) n p 0)))] → W p_ l e_ ({ frames := 5, cells := 2, slots := 132, locals := 152 } : Room) s_ m_ args_ below_ meth_ c_ H locs 0 0 Q (F0 m_ 76 ls ([])) := by
    intro H locs ls hW hl
    have hcw0 := cpw_le (T := ar 6) (n := n) (p := p) 0 (by decide)
    refine lv_iload F.x F.cd dX3_isOneOf_76 (lv_at hl 5 rfl) ?_
    refine lv_iload F.x F.cd dX3_isOneOf_78 (lv_at hl 4 rfl) ?_
    refine lv_iload_n F.x F.cd dX3_isOneOf_80 rfl (lv_at hl 3 rfl) ?_
    refine a_isub (v := (nI 5)) F (by decide) dX3_isOneOf_81 ?_
    refine n_icmp_ne (a := cpw (ar 6) n p 0) (b := 5) (tgt := 109) F (by omega) (by omega) dX3_isOneOf_82 (by decide) (fun c_82 => ?_) (fun c_82 => ?_)
    · have hall1 : ∀ j, j < 1 → cpw (ar 6) n p j ≠ wW j := fun j hj => (Nat.lt_succ_iff_lt_or_eq.mp hj).elim (hall0 j) (fun e9 => by rw [e9]; exact c_82)
      refine lv_iload_n F.x F.cd dX3_isOneOf_109 rfl (lv_at hl 2 rfl) ?_
      refine lv_iload F.x F.cd dX3_isOneOf_110 (lv_at hl 5 rfl) ?_
      refine s_mmax (v := (nI (max 0 (cpw (ar 6) n p 0)))) F q2766 q435 q87 q436 hl.1 (Nat.le_of_ble_eq_true rfl) (Nat.le_of_ble_eq_true rfl) (Nat.le_of_ble_eq_true rfl) (Nat.le_of_ble_eq_true rfl) (nI_max (by omega) (by omega)) dX3_isOneOf_112 ?_
      refine lv_istore_n (lv' := [(2, .int (nI (max 0 (cpw (ar 6) n p 0)))), (0, .ref m), (1, .ref a), (3, .int (nI 0)), (4, .int (nI 5)), (5, .int (nI (cpw (ar 6) n p 0)))]) F.x F.cd dX3_isOneOf_115 rfl hl (by decide) rfl (fun ls hl => ?_)
      refine lv_iload F.x F.cd dX3_isOneOf_116 (lv_at hl 4 rfl) ?_
      refine lv_iconst (v := (nI 1)) F.x F.cd dX3_isOneOf_118 (by decide) ?_
      refine a_iadd (v := (nI 6)) F (nI_add _ _) dX3_isOneOf_119 ?_
      refine lv_istore_n (lv' := [(3, .int (nI 6)), (2, .int (nI (max 0 (cpw (ar 6) n p 0)))), (0, .ref m), (1, .ref a), (4, .int (nI 5)), (5, .int (nI (cpw (ar 6) n p 0)))]) F.x F.cd dX3_isOneOf_120 rfl hl (by decide) rfl (fun ls hl => ?_)
      refine lv_goto (tgt := 4) F.x F.cd dX3_isOneOf_121 (by decide) ?_
      refine lv_iload_n F.x F.cd dX3_isOneOf_4 rfl (lv_at hl 0 rfl) ?_
      refine lv_aload_n F.x F.cd dX3_isOneOf_5 rfl (lv_at hl 3 rfl) ?_
      refine s_callV (As := []) (rest := [.int (nI 6)]) (C := RJ7) (T := TJ7) (N := 4) (n := 0) F hW (k_J7_length g l σ a WL  hs ) (e0) rfl q2699 q490 q491 q77 q492 rfl (by decide +kernel) rfl ⟨⟨Nat.le_of_ble_eq_true rfl, Nat.le_of_ble_eq_true rfl⟩, ⟨(Nat.le_of_ble_eq_true rfl), (Nat.le_of_ble_eq_true rfl)⟩⟩ (Nat.le_of_ble_eq_true rfl) hl.1 rfl dX3_isOneOf_6 cX_no (fun r4 σ4 H locs hp4 hW => ?_)
      obtain ⟨rfl, hs4⟩ := hp4
      rw [hs4] at hW
      refine W.eq (g2 := F0 m_ 9 ls (.int (nI WL.length) :: .int (nI 6) :: [])) rfl ?_
      refine W.eq (g2 := F0 m_ 9 ls (.int (nI 49) :: .int (nI 6) :: [])) (by rfl) ?_
      refine n_icmp_ge (a := 6) (b := 49) (tgt := 124) F (by omega) (by omega) dX3_isOneOf_9 (by decide) (fun c_9 => absurd c_9 (by decide)) (fun c_9 => ?_)
      refine lv_aload_n F.x F.cd dX3_isOneOf_12 rfl (lv_at hl 3 rfl) ?_
      refine lv_bipush (v := (nI 95)) F.x F.cd dX3_isOneOf_13 (by decide) ?_
      refine lv_iload_n F.x F.cd dX3_isOneOf_15 rfl (lv_at hl 0 rfl) ?_
      refine s_callV (As := [.int (nI 95), .int (nI 6)]) (rest := []) (C := RJ7) (T := TJ7) (N := 4) (n := 2) F hW (k_J7_indexOf_2 g l σ a WL 95 6 hs (by omega) (by omega) (by omega)) (e0) rfl q2700 q2701 q2702 q77 q2703 rfl (by decide +kernel) rfl ⟨⟨Nat.le_of_ble_eq_true rfl, Nat.le_of_ble_eq_true rfl⟩, ⟨(Nat.le_of_ble_eq_true rfl), (Nat.le_of_ble_eq_true rfl)⟩⟩ (Nat.le_of_ble_eq_true rfl) hl.1 rfl dX3_isOneOf_16 cX_no (fun r5 σ5 H locs hp5 hW => ?_)
      obtain ⟨rfl, hs5⟩ := hp5
      rw [hs5] at hW
      refine W.eq (g2 := F0 m_ 19 ls (.int (ixF WL 95 6 (WL.length - 6)) :: [])) rfl ?_
      refine W.eq (g2 := F0 m_ 19 ls (.int (nI 11) :: [])) (by rw [show (ixF WL 95 6 (WL.length - 6)) = nI 11 by decide +kernel]) ?_
      refine lv_istore (lv' := [(4, .int (nI 11)), (3, .int (nI 6)), (2, .int (nI (max 0 (cpw (ar 6) n p 0)))), (0, .ref m), (1, .ref a), (5, .int (nI (cpw (ar 6) n p 0)))]) F.x F.cd dX3_isOneOf_19 hl (by decide) rfl (fun ls hl => ?_)
      refine lv_iconst (v := (nI 0)) F.x F.cd dX3_isOneOf_21 (by decide) ?_
      refine lv_istore (lv' := [(5, .int (nI 0)), (4, .int (nI 11)), (3, .int (nI 6)), (2, .int (nI (max 0 (cpw (ar 6) n p 0)))), (0, .ref m), (1, .ref a)]) F.x F.cd dX3_isOneOf_22 hl (by decide) rfl (fun ls hl => ?_)
      have kont1 : ∀ (H : Heap) (locs : List Loc) (ls : Array Slot), Hl g σ H locs → lv_has ls 6 [(0, .ref m), (1, .ref a), (2, .int (nI (max 0 (cpw (ar 6) n p 0)))), (3, .int (nI 6)), (4, .int (nI 11)), (5, .int (nI (cpw (ar 6) n p 1)))] → W p_ l e_ ({ frames := 5, cells := 2, slots := 132, locals := 152 } : Room) s_ m_ args_ below_ meth_ c_ H locs 0 0 Q (F0 m_ 76 ls ([])) := by
        intro H locs ls hW hl
        have hcw1 := cpw_le (T := ar 6) (n := n) (p := p) 1 (by decide)
        refine lv_iload F.x F.cd dX3_isOneOf_76 (lv_at hl 5 rfl) ?_
        refine lv_iload F.x F.cd dX3_isOneOf_78 (lv_at hl 4 rfl) ?_
        refine lv_iload_n F.x F.cd dX3_isOneOf_80 rfl (lv_at hl 3 rfl) ?_
        refine a_isub (v := (nI 5)) F (by decide) dX3_isOneOf_81 ?_
        refine n_icmp_ne (a := cpw (ar 6) n p 1) (b := 5) (tgt := 109) F (by omega) (by omega) dX3_isOneOf_82 (by decide) (fun c_82 => ?_) (fun c_82 => ?_)
        · have hall2 : ∀ j, j < 2 → cpw (ar 6) n p j ≠ wW j := fun j hj => (Nat.lt_succ_iff_lt_or_eq.mp hj).elim (hall1 j) (fun e9 => by rw [e9]; exact c_82)
          refine lv_iload_n F.x F.cd dX3_isOneOf_109 rfl (lv_at hl 2 rfl) ?_
          refine lv_iload F.x F.cd dX3_isOneOf_110 (lv_at hl 5 rfl) ?_
          refine s_mmax (v := (nI (max (max 0 (cpw (ar 6) n p 0)) (cpw (ar 6) n p 1)))) F q2766 q435 q87 q436 hl.1 (Nat.le_of_ble_eq_true rfl) (Nat.le_of_ble_eq_true rfl) (Nat.le_of_ble_eq_true rfl) (Nat.le_of_ble_eq_true rfl) (nI_max (by omega) (by omega)) dX3_isOneOf_112 ?_
          refine lv_istore_n (lv' := [(2, .int (nI (max (max 0 (cpw (ar 6) n p 0)) (cpw (ar 6) n p 1)))), (0, .ref m), (1, .ref a), (3, .int (nI 6)), (4, .int (nI 11)), (5, .int (nI (cpw (ar 6) n p 1)))]) F.x F.cd dX3_isOneOf_115 rfl hl (by decide) rfl (fun ls hl => ?_)
          refine lv_iload F.x F.cd dX3_isOneOf_116 (lv_at hl 4 rfl) ?_
          refine lv_iconst (v := (nI 1)) F.x F.cd dX3_isOneOf_118 (by decide) ?_
          refine a_iadd (v := (nI 12)) F (nI_add _ _) dX3_isOneOf_119 ?_
          refine lv_istore_n (lv' := [(3, .int (nI 12)), (2, .int (nI (max (max 0 (cpw (ar 6) n p 0)) (cpw (ar 6) n p 1)))), (0, .ref m), (1, .ref a), (4, .int (nI 11)), (5, .int (nI (cpw (ar 6) n p 1)))]) F.x F.cd dX3_isOneOf_120 rfl hl (by decide) rfl (fun ls hl => ?_)
          refine lv_goto (tgt := 4) F.x F.cd dX3_isOneOf_121 (by decide) ?_
          refine lv_iload_n F.x F.cd dX3_isOneOf_4 rfl (lv_at hl 0 rfl) ?_
          refine lv_aload_n F.x F.cd dX3_isOneOf_5 rfl (lv_at hl 3 rfl) ?_
          refine s_callV (As := []) (rest := [.int (nI 12)]) (C := RJ7) (T := TJ7) (N := 4) (n := 0) F hW (k_J7_length g l σ a WL  hs ) (e0) rfl q2699 q490 q491 q77 q492 rfl (by decide +kernel) rfl ⟨⟨Nat.le_of_ble_eq_true rfl, Nat.le_of_ble_eq_true rfl⟩, ⟨(Nat.le_of_ble_eq_true rfl), (Nat.le_of_ble_eq_true rfl)⟩⟩ (Nat.le_of_ble_eq_true rfl) hl.1 rfl dX3_isOneOf_6 cX_no (fun r6 σ6 H locs hp6 hW => ?_)
          obtain ⟨rfl, hs6⟩ := hp6
          rw [hs6] at hW
          refine W.eq (g2 := F0 m_ 9 ls (.int (nI WL.length) :: .int (nI 12) :: [])) rfl ?_
          refine W.eq (g2 := F0 m_ 9 ls (.int (nI 49) :: .int (nI 12) :: [])) (by rfl) ?_
          refine n_icmp_ge (a := 12) (b := 49) (tgt := 124) F (by omega) (by omega) dX3_isOneOf_9 (by decide) (fun c_9 => absurd c_9 (by decide)) (fun c_9 => ?_)
          refine lv_aload_n F.x F.cd dX3_isOneOf_12 rfl (lv_at hl 3 rfl) ?_
          refine lv_bipush (v := (nI 95)) F.x F.cd dX3_isOneOf_13 (by decide) ?_
          refine lv_iload_n F.x F.cd dX3_isOneOf_15 rfl (lv_at hl 0 rfl) ?_
          refine s_callV (As := [.int (nI 95), .int (nI 12)]) (rest := []) (C := RJ7) (T := TJ7) (N := 4) (n := 2) F hW (k_J7_indexOf_2 g l σ a WL 95 12 hs (by omega) (by omega) (by omega)) (e0) rfl q2700 q2701 q2702 q77 q2703 rfl (by decide +kernel) rfl ⟨⟨Nat.le_of_ble_eq_true rfl, Nat.le_of_ble_eq_true rfl⟩, ⟨(Nat.le_of_ble_eq_true rfl), (Nat.le_of_ble_eq_true rfl)⟩⟩ (Nat.le_of_ble_eq_true rfl) hl.1 rfl dX3_isOneOf_16 cX_no (fun r7 σ7 H locs hp7 hW => ?_)
          obtain ⟨rfl, hs7⟩ := hp7
          rw [hs7] at hW
          refine W.eq (g2 := F0 m_ 19 ls (.int (ixF WL 95 12 (WL.length - 12)) :: [])) rfl ?_
          refine W.eq (g2 := F0 m_ 19 ls (.int (nI 17) :: [])) (by rw [show (ixF WL 95 12 (WL.length - 12)) = nI 17 by decide +kernel]) ?_
          refine lv_istore (lv' := [(4, .int (nI 17)), (3, .int (nI 12)), (2, .int (nI (max (max 0 (cpw (ar 6) n p 0)) (cpw (ar 6) n p 1)))), (0, .ref m), (1, .ref a), (5, .int (nI (cpw (ar 6) n p 1)))]) F.x F.cd dX3_isOneOf_19 hl (by decide) rfl (fun ls hl => ?_)
          refine lv_iconst (v := (nI 0)) F.x F.cd dX3_isOneOf_21 (by decide) ?_
          refine lv_istore (lv' := [(5, .int (nI 0)), (4, .int (nI 17)), (3, .int (nI 12)), (2, .int (nI (max (max 0 (cpw (ar 6) n p 0)) (cpw (ar 6) n p 1)))), (0, .ref m), (1, .ref a)]) F.x F.cd dX3_isOneOf_22 hl (by decide) rfl (fun ls hl => ?_)
          have kont2 : ∀ (H : Heap) (locs : List Loc) (ls : Array Slot), Hl g σ H locs → lv_has ls 6 [(0, .ref m), (1, .ref a), (2, .int (nI (max (max 0 (cpw (ar 6) n p 0)) (cpw (ar 6) n p 1)))), (3, .int (nI 12)), (4, .int (nI 17)), (5, .int (nI (cpw (ar 6) n p 2)))] → W p_ l e_ ({ frames := 5, cells := 2, slots := 132, locals := 152 } : Room) s_ m_ args_ below_ meth_ c_ H locs 0 0 Q (F0 m_ 76 ls ([])) := by
            intro H locs ls hW hl
            have hcw2 := cpw_le (T := ar 6) (n := n) (p := p) 2 (by decide)
            refine lv_iload F.x F.cd dX3_isOneOf_76 (lv_at hl 5 rfl) ?_
            refine lv_iload F.x F.cd dX3_isOneOf_78 (lv_at hl 4 rfl) ?_
            refine lv_iload_n F.x F.cd dX3_isOneOf_80 rfl (lv_at hl 3 rfl) ?_
            refine a_isub (v := (nI 5)) F (by decide) dX3_isOneOf_81 ?_
            refine n_icmp_ne (a := cpw (ar 6) n p 2) (b := 5) (tgt := 109) F (by omega) (by omega) dX3_isOneOf_82 (by decide) (fun c_82 => ?_) (fun c_82 => ?_)
            · have hall3 : ∀ j, j < 3 → cpw (ar 6) n p j ≠ wW j := fun j hj => (Nat.lt_succ_iff_lt_or_eq.mp hj).elim (hall2 j) (fun e9 => by rw [e9]; exact c_82)
              refine lv_iload_n F.x F.cd dX3_isOneOf_109 rfl (lv_at hl 2 rfl) ?_
              refine lv_iload F.x F.cd dX3_isOneOf_110 (lv_at hl 5 rfl) ?_
              refine s_mmax (v := (nI (max (max (max 0 (cpw (ar 6) n p 0)) (cpw (ar 6) n p 1)) (cpw (ar 6) n p 2)))) F q2766 q435 q87 q436 hl.1 (Nat.le_of_ble_eq_true rfl) (Nat.le_of_ble_eq_true rfl) (Nat.le_of_ble_eq_true rfl) (Nat.le_of_ble_eq_true rfl) (nI_max (by omega) (by omega)) dX3_isOneOf_112 ?_
              refine lv_istore_n (lv' := [(2, .int (nI (max (max (max 0 (cpw (ar 6) n p 0)) (cpw (ar 6) n p 1)) (cpw (ar 6) n p 2)))), (0, .ref m), (1, .ref a), (3, .int (nI 12)), (4, .int (nI 17)), (5, .int (nI (cpw (ar 6) n p 2)))]) F.x F.cd dX3_isOneOf_115 rfl hl (by decide) rfl (fun ls hl => ?_)
              refine lv_iload F.x F.cd dX3_isOneOf_116 (lv_at hl 4 rfl) ?_
              refine lv_iconst (v := (nI 1)) F.x F.cd dX3_isOneOf_118 (by decide) ?_
              refine a_iadd (v := (nI 18)) F (nI_add _ _) dX3_isOneOf_119 ?_
              refine lv_istore_n (lv' := [(3, .int (nI 18)), (2, .int (nI (max (max (max 0 (cpw (ar 6) n p 0)) (cpw (ar 6) n p 1)) (cpw (ar 6) n p 2)))), (0, .ref m), (1, .ref a), (4, .int (nI 17)), (5, .int (nI (cpw (ar 6) n p 2)))]) F.x F.cd dX3_isOneOf_120 rfl hl (by decide) rfl (fun ls hl => ?_)
              refine lv_goto (tgt := 4) F.x F.cd dX3_isOneOf_121 (by decide) ?_
              refine lv_iload_n F.x F.cd dX3_isOneOf_4 rfl (lv_at hl 0 rfl) ?_
              refine lv_aload_n F.x F.cd dX3_isOneOf_5 rfl (lv_at hl 3 rfl) ?_
              refine s_callV (As := []) (rest := [.int (nI 18)]) (C := RJ7) (T := TJ7) (N := 4) (n := 0) F hW (k_J7_length g l σ a WL  hs ) (e0) rfl q2699 q490 q491 q77 q492 rfl (by decide +kernel) rfl ⟨⟨Nat.le_of_ble_eq_true rfl, Nat.le_of_ble_eq_true rfl⟩, ⟨(Nat.le_of_ble_eq_true rfl), (Nat.le_of_ble_eq_true rfl)⟩⟩ (Nat.le_of_ble_eq_true rfl) hl.1 rfl dX3_isOneOf_6 cX_no (fun r8 σ8 H locs hp8 hW => ?_)
              obtain ⟨rfl, hs8⟩ := hp8
              rw [hs8] at hW
              refine W.eq (g2 := F0 m_ 9 ls (.int (nI WL.length) :: .int (nI 18) :: [])) rfl ?_
              refine W.eq (g2 := F0 m_ 9 ls (.int (nI 49) :: .int (nI 18) :: [])) (by rfl) ?_
              refine n_icmp_ge (a := 18) (b := 49) (tgt := 124) F (by omega) (by omega) dX3_isOneOf_9 (by decide) (fun c_9 => absurd c_9 (by decide)) (fun c_9 => ?_)
              refine lv_aload_n F.x F.cd dX3_isOneOf_12 rfl (lv_at hl 3 rfl) ?_
              refine lv_bipush (v := (nI 95)) F.x F.cd dX3_isOneOf_13 (by decide) ?_
              refine lv_iload_n F.x F.cd dX3_isOneOf_15 rfl (lv_at hl 0 rfl) ?_
              refine s_callV (As := [.int (nI 95), .int (nI 18)]) (rest := []) (C := RJ7) (T := TJ7) (N := 4) (n := 2) F hW (k_J7_indexOf_2 g l σ a WL 95 18 hs (by omega) (by omega) (by omega)) (e0) rfl q2700 q2701 q2702 q77 q2703 rfl (by decide +kernel) rfl ⟨⟨Nat.le_of_ble_eq_true rfl, Nat.le_of_ble_eq_true rfl⟩, ⟨(Nat.le_of_ble_eq_true rfl), (Nat.le_of_ble_eq_true rfl)⟩⟩ (Nat.le_of_ble_eq_true rfl) hl.1 rfl dX3_isOneOf_16 cX_no (fun r9 σ9 H locs hp9 hW => ?_)
              obtain ⟨rfl, hs9⟩ := hp9
              rw [hs9] at hW
              refine W.eq (g2 := F0 m_ 19 ls (.int (ixF WL 95 18 (WL.length - 18)) :: [])) rfl ?_
              refine W.eq (g2 := F0 m_ 19 ls (.int (nI 23) :: [])) (by rw [show (ixF WL 95 18 (WL.length - 18)) = nI 23 by decide +kernel]) ?_
              refine lv_istore (lv' := [(4, .int (nI 23)), (3, .int (nI 18)), (2, .int (nI (max (max (max 0 (cpw (ar 6) n p 0)) (cpw (ar 6) n p 1)) (cpw (ar 6) n p 2)))), (0, .ref m), (1, .ref a), (5, .int (nI (cpw (ar 6) n p 2)))]) F.x F.cd dX3_isOneOf_19 hl (by decide) rfl (fun ls hl => ?_)
              refine lv_iconst (v := (nI 0)) F.x F.cd dX3_isOneOf_21 (by decide) ?_
              refine lv_istore (lv' := [(5, .int (nI 0)), (4, .int (nI 23)), (3, .int (nI 18)), (2, .int (nI (max (max (max 0 (cpw (ar 6) n p 0)) (cpw (ar 6) n p 1)) (cpw (ar 6) n p 2)))), (0, .ref m), (1, .ref a)]) F.x F.cd dX3_isOneOf_22 hl (by decide) rfl (fun ls hl => ?_)
              have kont3 : ∀ (H : Heap) (locs : List Loc) (ls : Array Slot), Hl g σ H locs → lv_has ls 6 [(0, .ref m), (1, .ref a), (2, .int (nI (max (max (max 0 (cpw (ar 6) n p 0)) (cpw (ar 6) n p 1)) (cpw (ar 6) n p 2)))), (3, .int (nI 18)), (4, .int (nI 23)), (5, .int (nI (cpw (ar 6) n p 3)))] → W p_ l e_ ({ frames := 5, cells := 2, slots := 132, locals := 152 } : Room) s_ m_ args_ below_ meth_ c_ H locs 0 0 Q (F0 m_ 76 ls ([])) := by
                intro H locs ls hW hl
                have hcw3 := cpw_le (T := ar 6) (n := n) (p := p) 3 (by decide)
                refine lv_iload F.x F.cd dX3_isOneOf_76 (lv_at hl 5 rfl) ?_
                refine lv_iload F.x F.cd dX3_isOneOf_78 (lv_at hl 4 rfl) ?_
                refine lv_iload_n F.x F.cd dX3_isOneOf_80 rfl (lv_at hl 3 rfl) ?_
                refine a_isub (v := (nI 5)) F (by decide) dX3_isOneOf_81 ?_
                refine n_icmp_ne (a := cpw (ar 6) n p 3) (b := 5) (tgt := 109) F (by omega) (by omega) dX3_isOneOf_82 (by decide) (fun c_82 => ?_) (fun c_82 => ?_)
                · have hall4 : ∀ j, j < 4 → cpw (ar 6) n p j ≠ wW j := fun j hj => (Nat.lt_succ_iff_lt_or_eq.mp hj).elim (hall3 j) (fun e9 => by rw [e9]; exact c_82)
                  refine lv_iload_n F.x F.cd dX3_isOneOf_109 rfl (lv_at hl 2 rfl) ?_
                  refine lv_iload F.x F.cd dX3_isOneOf_110 (lv_at hl 5 rfl) ?_
                  refine s_mmax (v := (nI (max (max (max (max 0 (cpw (ar 6) n p 0)) (cpw (ar 6) n p 1)) (cpw (ar 6) n p 2)) (cpw (ar 6) n p 3)))) F q2766 q435 q87 q436 hl.1 (Nat.le_of_ble_eq_true rfl) (Nat.le_of_ble_eq_true rfl) (Nat.le_of_ble_eq_true rfl) (Nat.le_of_ble_eq_true rfl) (nI_max (by omega) (by omega)) dX3_isOneOf_112 ?_
                  refine lv_istore_n (lv' := [(2, .int (nI (max (max (max (max 0 (cpw (ar 6) n p 0)) (cpw (ar 6) n p 1)) (cpw (ar 6) n p 2)) (cpw (ar 6) n p 3)))), (0, .ref m), (1, .ref a), (3, .int (nI 18)), (4, .int (nI 23)), (5, .int (nI (cpw (ar 6) n p 3)))]) F.x F.cd dX3_isOneOf_115 rfl hl (by decide) rfl (fun ls hl => ?_)
                  refine lv_iload F.x F.cd dX3_isOneOf_116 (lv_at hl 4 rfl) ?_
                  refine lv_iconst (v := (nI 1)) F.x F.cd dX3_isOneOf_118 (by decide) ?_
                  refine a_iadd (v := (nI 24)) F (nI_add _ _) dX3_isOneOf_119 ?_
                  refine lv_istore_n (lv' := [(3, .int (nI 24)), (2, .int (nI (max (max (max (max 0 (cpw (ar 6) n p 0)) (cpw (ar 6) n p 1)) (cpw (ar 6) n p 2)) (cpw (ar 6) n p 3)))), (0, .ref m), (1, .ref a), (4, .int (nI 23)), (5, .int (nI (cpw (ar 6) n p 3)))]) F.x F.cd dX3_isOneOf_120 rfl hl (by decide) rfl (fun ls hl => ?_)
                  refine lv_goto (tgt := 4) F.x F.cd dX3_isOneOf_121 (by decide) ?_
                  refine lv_iload_n F.x F.cd dX3_isOneOf_4 rfl (lv_at hl 0 rfl) ?_
                  refine lv_aload_n F.x F.cd dX3_isOneOf_5 rfl (lv_at hl 3 rfl) ?_
                  refine s_callV (As := []) (rest := [.int (nI 24)]) (C := RJ7) (T := TJ7) (N := 4) (n := 0) F hW (k_J7_length g l σ a WL  hs ) (e0) rfl q2699 q490 q491 q77 q492 rfl (by decide +kernel) rfl ⟨⟨Nat.le_of_ble_eq_true rfl, Nat.le_of_ble_eq_true rfl⟩, ⟨(Nat.le_of_ble_eq_true rfl), (Nat.le_of_ble_eq_true rfl)⟩⟩ (Nat.le_of_ble_eq_true rfl) hl.1 rfl dX3_isOneOf_6 cX_no (fun r10 σ10 H locs hp10 hW => ?_)
                  obtain ⟨rfl, hs10⟩ := hp10
                  rw [hs10] at hW
                  refine W.eq (g2 := F0 m_ 9 ls (.int (nI WL.length) :: .int (nI 24) :: [])) rfl ?_
                  refine W.eq (g2 := F0 m_ 9 ls (.int (nI 49) :: .int (nI 24) :: [])) (by rfl) ?_
                  refine n_icmp_ge (a := 24) (b := 49) (tgt := 124) F (by omega) (by omega) dX3_isOneOf_9 (by decide) (fun c_9 => absurd c_9 (by decide)) (fun c_9 => ?_)
                  refine lv_aload_n F.x F.cd dX3_isOneOf_12 rfl (lv_at hl 3 rfl) ?_
                  refine lv_bipush (v := (nI 95)) F.x F.cd dX3_isOneOf_13 (by decide) ?_
                  refine lv_iload_n F.x F.cd dX3_isOneOf_15 rfl (lv_at hl 0 rfl) ?_
                  refine s_callV (As := [.int (nI 95), .int (nI 24)]) (rest := []) (C := RJ7) (T := TJ7) (N := 4) (n := 2) F hW (k_J7_indexOf_2 g l σ a WL 95 24 hs (by omega) (by omega) (by omega)) (e0) rfl q2700 q2701 q2702 q77 q2703 rfl (by decide +kernel) rfl ⟨⟨Nat.le_of_ble_eq_true rfl, Nat.le_of_ble_eq_true rfl⟩, ⟨(Nat.le_of_ble_eq_true rfl), (Nat.le_of_ble_eq_true rfl)⟩⟩ (Nat.le_of_ble_eq_true rfl) hl.1 rfl dX3_isOneOf_16 cX_no (fun r11 σ11 H locs hp11 hW => ?_)
                  obtain ⟨rfl, hs11⟩ := hp11
                  rw [hs11] at hW
                  refine W.eq (g2 := F0 m_ 19 ls (.int (ixF WL 95 24 (WL.length - 24)) :: [])) rfl ?_
                  refine W.eq (g2 := F0 m_ 19 ls (.int (nI 30) :: [])) (by rw [show (ixF WL 95 24 (WL.length - 24)) = nI 30 by decide +kernel]) ?_
                  refine lv_istore (lv' := [(4, .int (nI 30)), (3, .int (nI 24)), (2, .int (nI (max (max (max (max 0 (cpw (ar 6) n p 0)) (cpw (ar 6) n p 1)) (cpw (ar 6) n p 2)) (cpw (ar 6) n p 3)))), (0, .ref m), (1, .ref a), (5, .int (nI (cpw (ar 6) n p 3)))]) F.x F.cd dX3_isOneOf_19 hl (by decide) rfl (fun ls hl => ?_)
                  refine lv_iconst (v := (nI 0)) F.x F.cd dX3_isOneOf_21 (by decide) ?_
                  refine lv_istore (lv' := [(5, .int (nI 0)), (4, .int (nI 30)), (3, .int (nI 24)), (2, .int (nI (max (max (max (max 0 (cpw (ar 6) n p 0)) (cpw (ar 6) n p 1)) (cpw (ar 6) n p 2)) (cpw (ar 6) n p 3)))), (0, .ref m), (1, .ref a)]) F.x F.cd dX3_isOneOf_22 hl (by decide) rfl (fun ls hl => ?_)
                  have kont4 : ∀ (H : Heap) (locs : List Loc) (ls : Array Slot), Hl g σ H locs → lv_has ls 6 [(0, .ref m), (1, .ref a), (2, .int (nI (max (max (max (max 0 (cpw (ar 6) n p 0)) (cpw (ar 6) n p 1)) (cpw (ar 6) n p 2)) (cpw (ar 6) n p 3)))), (3, .int (nI 24)), (4, .int (nI 30)), (5, .int (nI (cpw (ar 6) n p 4)))] → W p_ l e_ ({ frames := 5, cells := 2, slots := 132, locals := 152 } : Room) s_ m_ args_ below_ meth_ c_ H locs 0 0 Q (F0 m_ 76 ls ([])) := by
                    intro H locs ls hW hl
                    have hcw4 := cpw_le (T := ar 6) (n := n) (p := p) 4 (by decide)
                    refine lv_iload F.x F.cd dX3_isOneOf_76 (lv_at hl 5 rfl) ?_
                    refine lv_iload F.x F.cd dX3_isOneOf_78 (lv_at hl 4 rfl) ?_
                    refine lv_iload_n F.x F.cd dX3_isOneOf_80 rfl (lv_at hl 3 rfl) ?_
                    refine a_isub (v := (nI 6)) F (by decide) dX3_isOneOf_81 ?_
                    refine n_icmp_ne (a := cpw (ar 6) n p 4) (b := 6) (tgt := 109) F (by omega) (by omega) dX3_isOneOf_82 (by decide) (fun c_82 => ?_) (fun c_82 => ?_)
                    · have hall5 : ∀ j, j < 5 → cpw (ar 6) n p j ≠ wW j := fun j hj => (Nat.lt_succ_iff_lt_or_eq.mp hj).elim (hall4 j) (fun e9 => by rw [e9]; exact c_82)
                      refine lv_iload_n F.x F.cd dX3_isOneOf_109 rfl (lv_at hl 2 rfl) ?_
                      refine lv_iload F.x F.cd dX3_isOneOf_110 (lv_at hl 5 rfl) ?_
                      refine s_mmax (v := (nI (max (max (max (max (max 0 (cpw (ar 6) n p 0)) (cpw (ar 6) n p 1)) (cpw (ar 6) n p 2)) (cpw (ar 6) n p 3)) (cpw (ar 6) n p 4)))) F q2766 q435 q87 q436 hl.1 (Nat.le_of_ble_eq_true rfl) (Nat.le_of_ble_eq_true rfl) (Nat.le_of_ble_eq_true rfl) (Nat.le_of_ble_eq_true rfl) (nI_max (by omega) (by omega)) dX3_isOneOf_112 ?_
                      refine lv_istore_n (lv' := [(2, .int (nI (max (max (max (max (max 0 (cpw (ar 6) n p 0)) (cpw (ar 6) n p 1)) (cpw (ar 6) n p 2)) (cpw (ar 6) n p 3)) (cpw (ar 6) n p 4)))), (0, .ref m), (1, .ref a), (3, .int (nI 24)), (4, .int (nI 30)), (5, .int (nI (cpw (ar 6) n p 4)))]) F.x F.cd dX3_isOneOf_115 rfl hl (by decide) rfl (fun ls hl => ?_)
                      refine lv_iload F.x F.cd dX3_isOneOf_116 (lv_at hl 4 rfl) ?_
                      refine lv_iconst (v := (nI 1)) F.x F.cd dX3_isOneOf_118 (by decide) ?_
                      refine a_iadd (v := (nI 31)) F (nI_add _ _) dX3_isOneOf_119 ?_
                      refine lv_istore_n (lv' := [(3, .int (nI 31)), (2, .int (nI (max (max (max (max (max 0 (cpw (ar 6) n p 0)) (cpw (ar 6) n p 1)) (cpw (ar 6) n p 2)) (cpw (ar 6) n p 3)) (cpw (ar 6) n p 4)))), (0, .ref m), (1, .ref a), (4, .int (nI 30)), (5, .int (nI (cpw (ar 6) n p 4)))]) F.x F.cd dX3_isOneOf_120 rfl hl (by decide) rfl (fun ls hl => ?_)
                      refine lv_goto (tgt := 4) F.x F.cd dX3_isOneOf_121 (by decide) ?_
                      refine lv_iload_n F.x F.cd dX3_isOneOf_4 rfl (lv_at hl 0 rfl) ?_
                      refine lv_aload_n F.x F.cd dX3_isOneOf_5 rfl (lv_at hl 3 rfl) ?_
                      refine s_callV (As := []) (rest := [.int (nI 31)]) (C := RJ7) (T := TJ7) (N := 4) (n := 0) F hW (k_J7_length g l σ a WL  hs ) (e0) rfl q2699 q490 q491 q77 q492 rfl (by decide +kernel) rfl ⟨⟨Nat.le_of_ble_eq_true rfl, Nat.le_of_ble_eq_true rfl⟩, ⟨(Nat.le_of_ble_eq_true rfl), (Nat.le_of_ble_eq_true rfl)⟩⟩ (Nat.le_of_ble_eq_true rfl) hl.1 rfl dX3_isOneOf_6 cX_no (fun r12 σ12 H locs hp12 hW => ?_)
                      obtain ⟨rfl, hs12⟩ := hp12
                      rw [hs12] at hW
                      refine W.eq (g2 := F0 m_ 9 ls (.int (nI WL.length) :: .int (nI 31) :: [])) rfl ?_
                      refine W.eq (g2 := F0 m_ 9 ls (.int (nI 49) :: .int (nI 31) :: [])) (by rfl) ?_
                      refine n_icmp_ge (a := 31) (b := 49) (tgt := 124) F (by omega) (by omega) dX3_isOneOf_9 (by decide) (fun c_9 => absurd c_9 (by decide)) (fun c_9 => ?_)
                      refine lv_aload_n F.x F.cd dX3_isOneOf_12 rfl (lv_at hl 3 rfl) ?_
                      refine lv_bipush (v := (nI 95)) F.x F.cd dX3_isOneOf_13 (by decide) ?_
                      refine lv_iload_n F.x F.cd dX3_isOneOf_15 rfl (lv_at hl 0 rfl) ?_
                      refine s_callV (As := [.int (nI 95), .int (nI 31)]) (rest := []) (C := RJ7) (T := TJ7) (N := 4) (n := 2) F hW (k_J7_indexOf_2 g l σ a WL 95 31 hs (by omega) (by omega) (by omega)) (e0) rfl q2700 q2701 q2702 q77 q2703 rfl (by decide +kernel) rfl ⟨⟨Nat.le_of_ble_eq_true rfl, Nat.le_of_ble_eq_true rfl⟩, ⟨(Nat.le_of_ble_eq_true rfl), (Nat.le_of_ble_eq_true rfl)⟩⟩ (Nat.le_of_ble_eq_true rfl) hl.1 rfl dX3_isOneOf_16 cX_no (fun r13 σ13 H locs hp13 hW => ?_)
                      obtain ⟨rfl, hs13⟩ := hp13
                      rw [hs13] at hW
                      refine W.eq (g2 := F0 m_ 19 ls (.int (ixF WL 95 31 (WL.length - 31)) :: [])) rfl ?_
                      refine W.eq (g2 := F0 m_ 19 ls (.int (nI 36) :: [])) (by rw [show (ixF WL 95 31 (WL.length - 31)) = nI 36 by decide +kernel]) ?_
                      refine lv_istore (lv' := [(4, .int (nI 36)), (3, .int (nI 31)), (2, .int (nI (max (max (max (max (max 0 (cpw (ar 6) n p 0)) (cpw (ar 6) n p 1)) (cpw (ar 6) n p 2)) (cpw (ar 6) n p 3)) (cpw (ar 6) n p 4)))), (0, .ref m), (1, .ref a), (5, .int (nI (cpw (ar 6) n p 4)))]) F.x F.cd dX3_isOneOf_19 hl (by decide) rfl (fun ls hl => ?_)
                      refine lv_iconst (v := (nI 0)) F.x F.cd dX3_isOneOf_21 (by decide) ?_
                      refine lv_istore (lv' := [(5, .int (nI 0)), (4, .int (nI 36)), (3, .int (nI 31)), (2, .int (nI (max (max (max (max (max 0 (cpw (ar 6) n p 0)) (cpw (ar 6) n p 1)) (cpw (ar 6) n p 2)) (cpw (ar 6) n p 3)) (cpw (ar 6) n p 4)))), (0, .ref m), (1, .ref a)]) F.x F.cd dX3_isOneOf_22 hl (by decide) rfl (fun ls hl => ?_)
                      have kont5 : ∀ (H : Heap) (locs : List Loc) (ls : Array Slot), Hl g σ H locs → lv_has ls 6 [(0, .ref m), (1, .ref a), (2, .int (nI (max (max (max (max (max 0 (cpw (ar 6) n p 0)) (cpw (ar 6) n p 1)) (cpw (ar 6) n p 2)) (cpw (ar 6) n p 3)) (cpw (ar 6) n p 4)))), (3, .int (nI 31)), (4, .int (nI 36)), (5, .int (nI (cpw (ar 6) n p 5)))] → W p_ l e_ ({ frames := 5, cells := 2, slots := 132, locals := 152 } : Room) s_ m_ args_ below_ meth_ c_ H locs 0 0 Q (F0 m_ 76 ls ([])) := by
                        intro H locs ls hW hl
                        have hcw5 := cpw_le (T := ar 6) (n := n) (p := p) 5 (by decide)
                        refine lv_iload F.x F.cd dX3_isOneOf_76 (lv_at hl 5 rfl) ?_
                        refine lv_iload F.x F.cd dX3_isOneOf_78 (lv_at hl 4 rfl) ?_
                        refine lv_iload_n F.x F.cd dX3_isOneOf_80 rfl (lv_at hl 3 rfl) ?_
                        refine a_isub (v := (nI 5)) F (by decide) dX3_isOneOf_81 ?_
                        refine n_icmp_ne (a := cpw (ar 6) n p 5) (b := 5) (tgt := 109) F (by omega) (by omega) dX3_isOneOf_82 (by decide) (fun c_82 => ?_) (fun c_82 => ?_)
                        · have hall6 : ∀ j, j < 6 → cpw (ar 6) n p j ≠ wW j := fun j hj => (Nat.lt_succ_iff_lt_or_eq.mp hj).elim (hall5 j) (fun e9 => by rw [e9]; exact c_82)
                          refine lv_iload_n F.x F.cd dX3_isOneOf_109 rfl (lv_at hl 2 rfl) ?_
                          refine lv_iload F.x F.cd dX3_isOneOf_110 (lv_at hl 5 rfl) ?_
                          refine s_mmax (v := (nI (max (max (max (max (max (max 0 (cpw (ar 6) n p 0)) (cpw (ar 6) n p 1)) (cpw (ar 6) n p 2)) (cpw (ar 6) n p 3)) (cpw (ar 6) n p 4)) (cpw (ar 6) n p 5)))) F q2766 q435 q87 q436 hl.1 (Nat.le_of_ble_eq_true rfl) (Nat.le_of_ble_eq_true rfl) (Nat.le_of_ble_eq_true rfl) (Nat.le_of_ble_eq_true rfl) (nI_max (by omega) (by omega)) dX3_isOneOf_112 ?_
                          refine lv_istore_n (lv' := [(2, .int (nI (max (max (max (max (max (max 0 (cpw (ar 6) n p 0)) (cpw (ar 6) n p 1)) (cpw (ar 6) n p 2)) (cpw (ar 6) n p 3)) (cpw (ar 6) n p 4)) (cpw (ar 6) n p 5)))), (0, .ref m), (1, .ref a), (3, .int (nI 31)), (4, .int (nI 36)), (5, .int (nI (cpw (ar 6) n p 5)))]) F.x F.cd dX3_isOneOf_115 rfl hl (by decide) rfl (fun ls hl => ?_)
                          refine lv_iload F.x F.cd dX3_isOneOf_116 (lv_at hl 4 rfl) ?_
                          refine lv_iconst (v := (nI 1)) F.x F.cd dX3_isOneOf_118 (by decide) ?_
                          refine a_iadd (v := (nI 37)) F (nI_add _ _) dX3_isOneOf_119 ?_
                          refine lv_istore_n (lv' := [(3, .int (nI 37)), (2, .int (nI (max (max (max (max (max (max 0 (cpw (ar 6) n p 0)) (cpw (ar 6) n p 1)) (cpw (ar 6) n p 2)) (cpw (ar 6) n p 3)) (cpw (ar 6) n p 4)) (cpw (ar 6) n p 5)))), (0, .ref m), (1, .ref a), (4, .int (nI 36)), (5, .int (nI (cpw (ar 6) n p 5)))]) F.x F.cd dX3_isOneOf_120 rfl hl (by decide) rfl (fun ls hl => ?_)
                          refine lv_goto (tgt := 4) F.x F.cd dX3_isOneOf_121 (by decide) ?_
                          refine lv_iload_n F.x F.cd dX3_isOneOf_4 rfl (lv_at hl 0 rfl) ?_
                          refine lv_aload_n F.x F.cd dX3_isOneOf_5 rfl (lv_at hl 3 rfl) ?_
                          refine s_callV (As := []) (rest := [.int (nI 37)]) (C := RJ7) (T := TJ7) (N := 4) (n := 0) F hW (k_J7_length g l σ a WL  hs ) (e0) rfl q2699 q490 q491 q77 q492 rfl (by decide +kernel) rfl ⟨⟨Nat.le_of_ble_eq_true rfl, Nat.le_of_ble_eq_true rfl⟩, ⟨(Nat.le_of_ble_eq_true rfl), (Nat.le_of_ble_eq_true rfl)⟩⟩ (Nat.le_of_ble_eq_true rfl) hl.1 rfl dX3_isOneOf_6 cX_no (fun r14 σ14 H locs hp14 hW => ?_)
                          obtain ⟨rfl, hs14⟩ := hp14
                          rw [hs14] at hW
                          refine W.eq (g2 := F0 m_ 9 ls (.int (nI WL.length) :: .int (nI 37) :: [])) rfl ?_
                          refine W.eq (g2 := F0 m_ 9 ls (.int (nI 49) :: .int (nI 37) :: [])) (by rfl) ?_
                          refine n_icmp_ge (a := 37) (b := 49) (tgt := 124) F (by omega) (by omega) dX3_isOneOf_9 (by decide) (fun c_9 => absurd c_9 (by decide)) (fun c_9 => ?_)
                          refine lv_aload_n F.x F.cd dX3_isOneOf_12 rfl (lv_at hl 3 rfl) ?_
                          refine lv_bipush (v := (nI 95)) F.x F.cd dX3_isOneOf_13 (by decide) ?_
                          refine lv_iload_n F.x F.cd dX3_isOneOf_15 rfl (lv_at hl 0 rfl) ?_
                          refine s_callV (As := [.int (nI 95), .int (nI 37)]) (rest := []) (C := RJ7) (T := TJ7) (N := 4) (n := 2) F hW (k_J7_indexOf_2 g l σ a WL 95 37 hs (by omega) (by omega) (by omega)) (e0) rfl q2700 q2701 q2702 q77 q2703 rfl (by decide +kernel) rfl ⟨⟨Nat.le_of_ble_eq_true rfl, Nat.le_of_ble_eq_true rfl⟩, ⟨(Nat.le_of_ble_eq_true rfl), (Nat.le_of_ble_eq_true rfl)⟩⟩ (Nat.le_of_ble_eq_true rfl) hl.1 rfl dX3_isOneOf_16 cX_no (fun r15 σ15 H locs hp15 hW => ?_)
                          obtain ⟨rfl, hs15⟩ := hp15
                          rw [hs15] at hW
                          refine W.eq (g2 := F0 m_ 19 ls (.int (ixF WL 95 37 (WL.length - 37)) :: [])) rfl ?_
                          refine W.eq (g2 := F0 m_ 19 ls (.int (nI 43) :: [])) (by rw [show (ixF WL 95 37 (WL.length - 37)) = nI 43 by decide +kernel]) ?_
                          refine lv_istore (lv' := [(4, .int (nI 43)), (3, .int (nI 37)), (2, .int (nI (max (max (max (max (max (max 0 (cpw (ar 6) n p 0)) (cpw (ar 6) n p 1)) (cpw (ar 6) n p 2)) (cpw (ar 6) n p 3)) (cpw (ar 6) n p 4)) (cpw (ar 6) n p 5)))), (0, .ref m), (1, .ref a), (5, .int (nI (cpw (ar 6) n p 5)))]) F.x F.cd dX3_isOneOf_19 hl (by decide) rfl (fun ls hl => ?_)
                          refine lv_iconst (v := (nI 0)) F.x F.cd dX3_isOneOf_21 (by decide) ?_
                          refine lv_istore (lv' := [(5, .int (nI 0)), (4, .int (nI 43)), (3, .int (nI 37)), (2, .int (nI (max (max (max (max (max (max 0 (cpw (ar 6) n p 0)) (cpw (ar 6) n p 1)) (cpw (ar 6) n p 2)) (cpw (ar 6) n p 3)) (cpw (ar 6) n p 4)) (cpw (ar 6) n p 5)))), (0, .ref m), (1, .ref a)]) F.x F.cd dX3_isOneOf_22 hl (by decide) rfl (fun ls hl => ?_)
                          have kont6 : ∀ (H : Heap) (locs : List Loc) (ls : Array Slot), Hl g σ H locs → lv_has ls 6 [(0, .ref m), (1, .ref a), (2, .int (nI (max (max (max (max (max (max 0 (cpw (ar 6) n p 0)) (cpw (ar 6) n p 1)) (cpw (ar 6) n p 2)) (cpw (ar 6) n p 3)) (cpw (ar 6) n p 4)) (cpw (ar 6) n p 5)))), (3, .int (nI 37)), (4, .int (nI 43)), (5, .int (nI (cpw (ar 6) n p 6)))] → W p_ l e_ ({ frames := 5, cells := 2, slots := 132, locals := 152 } : Room) s_ m_ args_ below_ meth_ c_ H locs 0 0 Q (F0 m_ 76 ls ([])) := by
                            intro H locs ls hW hl
                            have hcw6 := cpw_le (T := ar 6) (n := n) (p := p) 6 (by decide)
                            refine lv_iload F.x F.cd dX3_isOneOf_76 (lv_at hl 5 rfl) ?_
                            refine lv_iload F.x F.cd dX3_isOneOf_78 (lv_at hl 4 rfl) ?_
                            refine lv_iload_n F.x F.cd dX3_isOneOf_80 rfl (lv_at hl 3 rfl) ?_
                            refine a_isub (v := (nI 6)) F (by decide) dX3_isOneOf_81 ?_
                            refine n_icmp_ne (a := cpw (ar 6) n p 6) (b := 6) (tgt := 109) F (by omega) (by omega) dX3_isOneOf_82 (by decide) (fun c_82 => ?_) (fun c_82 => ?_)
                            · have hall7 : ∀ j, j < 7 → cpw (ar 6) n p j ≠ wW j := fun j hj => (Nat.lt_succ_iff_lt_or_eq.mp hj).elim (hall6 j) (fun e9 => by rw [e9]; exact c_82)
                              refine lv_iload_n F.x F.cd dX3_isOneOf_109 rfl (lv_at hl 2 rfl) ?_
                              refine lv_iload F.x F.cd dX3_isOneOf_110 (lv_at hl 5 rfl) ?_
                              refine s_mmax (v := (nI (max (max (max (max (max (max (max 0 (cpw (ar 6) n p 0)) (cpw (ar 6) n p 1)) (cpw (ar 6) n p 2)) (cpw (ar 6) n p 3)) (cpw (ar 6) n p 4)) (cpw (ar 6) n p 5)) (cpw (ar 6) n p 6)))) F q2766 q435 q87 q436 hl.1 (Nat.le_of_ble_eq_true rfl) (Nat.le_of_ble_eq_true rfl) (Nat.le_of_ble_eq_true rfl) (Nat.le_of_ble_eq_true rfl) (nI_max (by omega) (by omega)) dX3_isOneOf_112 ?_
                              refine lv_istore_n (lv' := [(2, .int (nI (max (max (max (max (max (max (max 0 (cpw (ar 6) n p 0)) (cpw (ar 6) n p 1)) (cpw (ar 6) n p 2)) (cpw (ar 6) n p 3)) (cpw (ar 6) n p 4)) (cpw (ar 6) n p 5)) (cpw (ar 6) n p 6)))), (0, .ref m), (1, .ref a), (3, .int (nI 37)), (4, .int (nI 43)), (5, .int (nI (cpw (ar 6) n p 6)))]) F.x F.cd dX3_isOneOf_115 rfl hl (by decide) rfl (fun ls hl => ?_)
                              refine lv_iload F.x F.cd dX3_isOneOf_116 (lv_at hl 4 rfl) ?_
                              refine lv_iconst (v := (nI 1)) F.x F.cd dX3_isOneOf_118 (by decide) ?_
                              refine a_iadd (v := (nI 44)) F (nI_add _ _) dX3_isOneOf_119 ?_
                              refine lv_istore_n (lv' := [(3, .int (nI 44)), (2, .int (nI (max (max (max (max (max (max (max 0 (cpw (ar 6) n p 0)) (cpw (ar 6) n p 1)) (cpw (ar 6) n p 2)) (cpw (ar 6) n p 3)) (cpw (ar 6) n p 4)) (cpw (ar 6) n p 5)) (cpw (ar 6) n p 6)))), (0, .ref m), (1, .ref a), (4, .int (nI 43)), (5, .int (nI (cpw (ar 6) n p 6)))]) F.x F.cd dX3_isOneOf_120 rfl hl (by decide) rfl (fun ls hl => ?_)
                              refine lv_goto (tgt := 4) F.x F.cd dX3_isOneOf_121 (by decide) ?_
                              refine lv_iload_n F.x F.cd dX3_isOneOf_4 rfl (lv_at hl 0 rfl) ?_
                              refine lv_aload_n F.x F.cd dX3_isOneOf_5 rfl (lv_at hl 3 rfl) ?_
                              refine s_callV (As := []) (rest := [.int (nI 44)]) (C := RJ7) (T := TJ7) (N := 4) (n := 0) F hW (k_J7_length g l σ a WL  hs ) (e0) rfl q2699 q490 q491 q77 q492 rfl (by decide +kernel) rfl ⟨⟨Nat.le_of_ble_eq_true rfl, Nat.le_of_ble_eq_true rfl⟩, ⟨(Nat.le_of_ble_eq_true rfl), (Nat.le_of_ble_eq_true rfl)⟩⟩ (Nat.le_of_ble_eq_true rfl) hl.1 rfl dX3_isOneOf_6 cX_no (fun r16 σ16 H locs hp16 hW => ?_)
                              obtain ⟨rfl, hs16⟩ := hp16
                              rw [hs16] at hW
                              refine W.eq (g2 := F0 m_ 9 ls (.int (nI WL.length) :: .int (nI 44) :: [])) rfl ?_
                              refine W.eq (g2 := F0 m_ 9 ls (.int (nI 49) :: .int (nI 44) :: [])) (by rfl) ?_
                              refine n_icmp_ge (a := 44) (b := 49) (tgt := 124) F (by omega) (by omega) dX3_isOneOf_9 (by decide) (fun c_9 => absurd c_9 (by decide)) (fun c_9 => ?_)
                              refine lv_aload_n F.x F.cd dX3_isOneOf_12 rfl (lv_at hl 3 rfl) ?_
                              refine lv_bipush (v := (nI 95)) F.x F.cd dX3_isOneOf_13 (by decide) ?_
                              refine lv_iload_n F.x F.cd dX3_isOneOf_15 rfl (lv_at hl 0 rfl) ?_
                              refine s_callV (As := [.int (nI 95), .int (nI 44)]) (rest := []) (C := RJ7) (T := TJ7) (N := 4) (n := 2) F hW (k_J7_indexOf_2 g l σ a WL 95 44 hs (by omega) (by omega) (by omega)) (e0) rfl q2700 q2701 q2702 q77 q2703 rfl (by decide +kernel) rfl ⟨⟨Nat.le_of_ble_eq_true rfl, Nat.le_of_ble_eq_true rfl⟩, ⟨(Nat.le_of_ble_eq_true rfl), (Nat.le_of_ble_eq_true rfl)⟩⟩ (Nat.le_of_ble_eq_true rfl) hl.1 rfl dX3_isOneOf_16 cX_no (fun r17 σ17 H locs hp17 hW => ?_)
                              obtain ⟨rfl, hs17⟩ := hp17
                              rw [hs17] at hW
                              refine W.eq (g2 := F0 m_ 19 ls (.int (ixF WL 95 44 (WL.length - 44)) :: [])) rfl ?_
                              refine W.eq (g2 := F0 m_ 19 ls (.int (nI 48) :: [])) (by rw [show (ixF WL 95 44 (WL.length - 44)) = nI 48 by decide +kernel]) ?_
                              refine lv_istore (lv' := [(4, .int (nI 48)), (3, .int (nI 44)), (2, .int (nI (max (max (max (max (max (max (max 0 (cpw (ar 6) n p 0)) (cpw (ar 6) n p 1)) (cpw (ar 6) n p 2)) (cpw (ar 6) n p 3)) (cpw (ar 6) n p 4)) (cpw (ar 6) n p 5)) (cpw (ar 6) n p 6)))), (0, .ref m), (1, .ref a), (5, .int (nI (cpw (ar 6) n p 6)))]) F.x F.cd dX3_isOneOf_19 hl (by decide) rfl (fun ls hl => ?_)
                              refine lv_iconst (v := (nI 0)) F.x F.cd dX3_isOneOf_21 (by decide) ?_
                              refine lv_istore (lv' := [(5, .int (nI 0)), (4, .int (nI 48)), (3, .int (nI 44)), (2, .int (nI (max (max (max (max (max (max (max 0 (cpw (ar 6) n p 0)) (cpw (ar 6) n p 1)) (cpw (ar 6) n p 2)) (cpw (ar 6) n p 3)) (cpw (ar 6) n p 4)) (cpw (ar 6) n p 5)) (cpw (ar 6) n p 6)))), (0, .ref m), (1, .ref a)]) F.x F.cd dX3_isOneOf_22 hl (by decide) rfl (fun ls hl => ?_)
                              have kont7 : ∀ (H : Heap) (locs : List Loc) (ls : Array Slot), Hl g σ H locs → lv_has ls 6 [(0, .ref m), (1, .ref a), (2, .int (nI (max (max (max (max (max (max (max 0 (cpw (ar 6) n p 0)) (cpw (ar 6) n p 1)) (cpw (ar 6) n p 2)) (cpw (ar 6) n p 3)) (cpw (ar 6) n p 4)) (cpw (ar 6) n p 5)) (cpw (ar 6) n p 6)))), (3, .int (nI 44)), (4, .int (nI 48)), (5, .int (nI (cpw (ar 6) n p 7)))] → W p_ l e_ ({ frames := 5, cells := 2, slots := 132, locals := 152 } : Room) s_ m_ args_ below_ meth_ c_ H locs 0 0 Q (F0 m_ 76 ls ([])) := by
                                intro H locs ls hW hl
                                have hcw7 := cpw_le (T := ar 6) (n := n) (p := p) 7 (by decide)
                                refine lv_iload F.x F.cd dX3_isOneOf_76 (lv_at hl 5 rfl) ?_
                                refine lv_iload F.x F.cd dX3_isOneOf_78 (lv_at hl 4 rfl) ?_
                                refine lv_iload_n F.x F.cd dX3_isOneOf_80 rfl (lv_at hl 3 rfl) ?_
                                refine a_isub (v := (nI 4)) F (by decide) dX3_isOneOf_81 ?_
                                refine n_icmp_ne (a := cpw (ar 6) n p 7) (b := 4) (tgt := 109) F (by omega) (by omega) dX3_isOneOf_82 (by decide) (fun c_82 => ?_) (fun c_82 => ?_)
                                · have hall8 : ∀ j, j < 8 → cpw (ar 6) n p j ≠ wW j := fun j hj => (Nat.lt_succ_iff_lt_or_eq.mp hj).elim (hall7 j) (fun e9 => by rw [e9]; exact c_82)
                                  refine lv_iload_n F.x F.cd dX3_isOneOf_109 rfl (lv_at hl 2 rfl) ?_
                                  refine lv_iload F.x F.cd dX3_isOneOf_110 (lv_at hl 5 rfl) ?_
                                  refine s_mmax (v := (nI (max (max (max (max (max (max (max (max 0 (cpw (ar 6) n p 0)) (cpw (ar 6) n p 1)) (cpw (ar 6) n p 2)) (cpw (ar 6) n p 3)) (cpw (ar 6) n p 4)) (cpw (ar 6) n p 5)) (cpw (ar 6) n p 6)) (cpw (ar 6) n p 7)))) F q2766 q435 q87 q436 hl.1 (Nat.le_of_ble_eq_true rfl) (Nat.le_of_ble_eq_true rfl) (Nat.le_of_ble_eq_true rfl) (Nat.le_of_ble_eq_true rfl) (nI_max (by omega) (by omega)) dX3_isOneOf_112 ?_
                                  refine lv_istore_n (lv' := [(2, .int (nI (max (max (max (max (max (max (max (max 0 (cpw (ar 6) n p 0)) (cpw (ar 6) n p 1)) (cpw (ar 6) n p 2)) (cpw (ar 6) n p 3)) (cpw (ar 6) n p 4)) (cpw (ar 6) n p 5)) (cpw (ar 6) n p 6)) (cpw (ar 6) n p 7)))), (0, .ref m), (1, .ref a), (3, .int (nI 44)), (4, .int (nI 48)), (5, .int (nI (cpw (ar 6) n p 7)))]) F.x F.cd dX3_isOneOf_115 rfl hl (by decide) rfl (fun ls hl => ?_)
                                  refine lv_iload F.x F.cd dX3_isOneOf_116 (lv_at hl 4 rfl) ?_
                                  refine lv_iconst (v := (nI 1)) F.x F.cd dX3_isOneOf_118 (by decide) ?_
                                  refine a_iadd (v := (nI 49)) F (nI_add _ _) dX3_isOneOf_119 ?_
                                  refine lv_istore_n (lv' := [(3, .int (nI 49)), (2, .int (nI (max (max (max (max (max (max (max (max 0 (cpw (ar 6) n p 0)) (cpw (ar 6) n p 1)) (cpw (ar 6) n p 2)) (cpw (ar 6) n p 3)) (cpw (ar 6) n p 4)) (cpw (ar 6) n p 5)) (cpw (ar 6) n p 6)) (cpw (ar 6) n p 7)))), (0, .ref m), (1, .ref a), (4, .int (nI 48)), (5, .int (nI (cpw (ar 6) n p 7)))]) F.x F.cd dX3_isOneOf_120 rfl hl (by decide) rfl (fun ls hl => ?_)
                                  refine lv_goto (tgt := 4) F.x F.cd dX3_isOneOf_121 (by decide) ?_
                                  refine lv_iload_n F.x F.cd dX3_isOneOf_4 rfl (lv_at hl 0 rfl) ?_
                                  refine lv_aload_n F.x F.cd dX3_isOneOf_5 rfl (lv_at hl 3 rfl) ?_
                                  refine s_callV (As := []) (rest := [.int (nI 49)]) (C := RJ7) (T := TJ7) (N := 4) (n := 0) F hW (k_J7_length g l σ a WL  hs ) (e0) rfl q2699 q490 q491 q77 q492 rfl (by decide +kernel) rfl ⟨⟨Nat.le_of_ble_eq_true rfl, Nat.le_of_ble_eq_true rfl⟩, ⟨(Nat.le_of_ble_eq_true rfl), (Nat.le_of_ble_eq_true rfl)⟩⟩ (Nat.le_of_ble_eq_true rfl) hl.1 rfl dX3_isOneOf_6 cX_no (fun r18 σ18 H locs hp18 hW => ?_)
                                  obtain ⟨rfl, hs18⟩ := hp18
                                  rw [hs18] at hW
                                  refine W.eq (g2 := F0 m_ 9 ls (.int (nI WL.length) :: .int (nI 49) :: [])) rfl ?_
                                  refine W.eq (g2 := F0 m_ 9 ls (.int (nI 49) :: .int (nI 49) :: [])) (by rfl) ?_
                                  refine n_icmp_ge (a := 49) (b := 49) (tgt := 124) F (by omega) (by omega) dX3_isOneOf_9 (by decide) (fun c_9 => ?_) (fun c_9 => absurd (by decide) c_9)
                                  refine lv_aload_n F.x F.cd dX3_isOneOf_124 rfl (lv_at hl 2 rfl) ?_
                                  refine lv_dup F.x F.cd dX3_isOneOf_125 rfl ?_
                                  refine s_get F hW (ci := 7) (C := RX3) (T := TX3) (N := 18) (v := .int (nI p)) (t0_1) rfl in_X3 11 (by decide) q2290 (fun _ h9 => h9) rfl dX3_isOneOf_126 ?_
                                  refine lv_iload_n F.x F.cd dX3_isOneOf_129 rfl (lv_at hl 1 rfl) ?_
                                  refine a_iadd (v := (nI (p + (max (max (max (max (max (max (max (max 0 (cpw (ar 6) n p 0)) (cpw (ar 6) n p 1)) (cpw (ar 6) n p 2)) (cpw (ar 6) n p 3)) (cpw (ar 6) n p 4)) (cpw (ar 6) n p 5)) (cpw (ar 6) n p 6)) (cpw (ar 6) n p 7))))) F (nI_add _ _) dX3_isOneOf_130 ?_
                                  refine s_put F hW (ci := 7) (C := RX3) (T := TX3) (N := 18) (v := .int (nI (p + (max (max (max (max (max (max (max (max 0 (cpw (ar 6) n p 0)) (cpw (ar 6) n p 1)) (cpw (ar 6) n p 2)) (cpw (ar 6) n p 3)) (cpw (ar 6) n p 4)) (cpw (ar 6) n p 5)) (cpw (ar 6) n p 6)) (cpw (ar 6) n p 7))))) (ty := .int) (t0_1) (tb0) rfl in_X3 tyX3_ok nmX3 11 (by decide) q2290 (fun _ h9 => h9) rfl (by decide +kernel) rfl rfl (Nat.le_of_ble_eq_true rfl) dX3_isOneOf_131 (fun H locs hW => ?_)
                                  obtain ⟨σ20, hσ20⟩ : ∃ z, z = sset σ m (.inr (7, [.ref (A 0), .ref (A 1), .ref (A 2), .int (iv 3), .ref (A 3), .int (iv 5), .ref (A 4), .ref (A 5), .int (iv 8), .ref (A 6), .int (nI n), .int (nI (p + (max (max (max (max (max (max (max (max 0 (cpw (ar 6) n p 0)) (cpw (ar 6) n p 1)) (cpw (ar 6) n p 2)) (cpw (ar 6) n p 3)) (cpw (ar 6) n p 4)) (cpw (ar 6) n p 5)) (cpw (ar 6) n p 6)) (cpw (ar 6) n p 7)))), .ref wd, .ref (A 7), .int (iv 14), .int (iv 15), .int (iv 16), .int (iv 17)])) := ⟨_, rfl⟩
                                  have hW : Hl g σ20 H locs := by rw [hσ20]; exact hW
                                  have w20 : σ20 m = some (.inr (7, [.ref (A 0), .ref (A 1), .ref (A 2), .int (iv 3), .ref (A 3), .int (iv 5), .ref (A 4), .ref (A 5), .int (iv 8), .ref (A 6), .int (nI n), .int (nI (p + (max (max (max (max (max (max (max (max 0 (cpw (ar 6) n p 0)) (cpw (ar 6) n p 1)) (cpw (ar 6) n p 2)) (cpw (ar 6) n p 3)) (cpw (ar 6) n p 4)) (cpw (ar 6) n p 5)) (cpw (ar 6) n p 6)) (cpw (ar 6) n p 7)))), .ref wd, .ref (A 7), .int (iv 14), .int (iv 15), .int (iv 16), .int (iv 17)])) := by rw [hσ20]; exact sset_eq
                                  have f21 : σ20 a = some (.inr (6, [.ref v, .int (nI 0), .int h, .int zz])) := by rw [hσ20, sset_ne (sto_ne t0_1 e0 (by simp))]; exact e0
                                  have f22 : σ20 (A 0) = some (eI g 0 114 (fun x9 => nI ((ar 0) x9))) := by rw [hσ20, sset_ne (sto_ne t0_1 ta0_1 (by simp))]; exact ta0_1
                                  have f23 : σ20 (A 1) = some (eI g 0 114 (fun x9 => nI ((ar 1) x9))) := by rw [hσ20, sset_ne (sto_ne t0_1 ta1_1 (by simp))]; exact ta1_1
                                  have f24 : σ20 (A 2) = some (eI g 0 912 (fun x9 => nI ((ar 2) x9))) := by rw [hσ20, sset_ne (sto_ne t0_1 ta2_1 (by simp))]; exact ta2_1
                                  have f25 : σ20 (A 3) = some (eI g 0 114 (fun x9 => nI ((ar 3) x9))) := by rw [hσ20, sset_ne (sto_ne t0_1 ta3_1 (by simp))]; exact ta3_1
                                  have f26 : σ20 (A 4) = some (eI g 2 2048 (fun x9 => bI (rb x9))) := by rw [hσ20, sset_ne (sto_ne t0_1 ta4_1 (by simp))]; exact ta4_1
                                  have f27 : σ20 (A 5) = some (eI g 3 60 (fun x9 => nI ((ar 5) x9))) := by rw [hσ20, sset_ne (sto_ne t0_1 ta5_1 (by simp))]; exact ta5_1
                                  have f28 : σ20 (A 6) = some (eI g 3 60 (fun x9 => nI ((ar 6) x9))) := by rw [hσ20, sset_ne (sto_ne t0_1 ta6_1 (by simp))]; exact ta6_1
                                  have f29 : σ20 (A 7) = some (eI g 0 3 (fun x9 => nI ((ar 7) x9))) := by rw [hσ20, sset_ne (sto_ne t0_1 ta7_1 (by simp))]; exact ta7_1
                                  have f30 : σ20 v = some (eI g 1 WL.length (bts WL)) := by rw [hσ20, sset_ne (sto_ne t0_1 ev (by simp))]; exact ev
                                  have tw31 : IsTw g σ20 m A (va_up (va_up iv 10 (nI n)) 11 (nI (p + (max (max (max (max (max (max (max (max 0 (cpw (ar 6) n p 0)) (cpw (ar 6) n p 1)) (cpw (ar 6) n p 2)) (cpw (ar 6) n p 3)) (cpw (ar 6) n p 4)) (cpw (ar 6) n p 5)) (cpw (ar 6) n p 6)) (cpw (ar 6) n p 7))))) wd ar rb := ⟨w20, tb0, f22, f23, f24, f25, f26, f27, f28, f29, tbb, tii⟩
                                  have fm31 : Fm σ σ20 m A := by rw [hσ20]; exact (Fm.refl).setM
                                  have tw_32 : IsTw g σ20 m A (va_up (va_up iv 10 (nI n)) 11 (nI (p + farN (ar 6) n p 8))) wd ar rb := by
                                    show IsTw g σ20 m A (va_up (va_up iv 10 (nI n)) 11 (nI (p + farN (ar 6) n p 8))) wd ar rb
                                    exact ⟨w20, tb0, f22, f23, f24, f25, f26, f27, f28, f29, tbb, tii⟩
                                  obtain ⟨t0_32, -, ta0_32, ta1_32, ta2_32, ta3_32, ta4_32, ta5_32, ta6_32, ta7_32, -, -⟩ := id tw_32
                                  refine lv_iconst (v := (nI 0)) F.x F.cd dX3_isOneOf_134 (by decide) ?_
                                  subst hQ
                                  exact s_reti (v := (nI 0)) F hW (by decide) (Or.inr ⟨hall8, rfl, tw_32, fm31⟩) ⟨(Nat.le_of_ble_eq_true rfl), (Nat.le_of_ble_eq_true rfl)⟩ dX3_isOneOf_135
                                · refine lv_aload_n F.x F.cd dX3_isOneOf_85 rfl (lv_at hl 0 rfl) ?_
                                  refine lv_aload_n F.x F.cd dX3_isOneOf_86 rfl (lv_at hl 1 rfl) ?_
                                  refine lv_iload_n F.x F.cd dX3_isOneOf_87 rfl (lv_at hl 3 rfl) ?_
                                  refine lv_iload F.x F.cd dX3_isOneOf_88 (lv_at hl 4 rfl) ?_
                                  refine s_callV (As := [.int (nI 44), .int (nI 48)]) (rest := [.ref m]) (C := RJ7) (T := TJ7) (N := 4) (n := 2) F hW (k_J7_substring g l σ a WL 44 48 hs (by decide) (by decide) (by decide) (by decide) (by decide)) (e0) rfl q2743 q2744 q2745 q77 q2746 rfl (by decide +kernel) rfl ⟨⟨Nat.le_of_ble_eq_true rfl, Nat.le_of_ble_eq_true rfl⟩, ⟨(Nat.le_of_ble_eq_true rfl), (Nat.le_of_ble_eq_true rfl)⟩⟩ (Nat.le_of_ble_eq_true rfl) hl.1 rfl dX3_isOneOf_90 cX_no (fun r33 σ33 H locs hp33 hW => ?_)
                                  obtain ⟨a_33, rfl, hba33, hna33, hst33, hxt33⟩ := hp33
                                  refine W.eq (g2 := F0 m_ 93 ls (.ref a_33 :: .ref m :: [])) rfl ?_
                                  have tx_34 := IsTw.ext tw_1 hxt33
                                  have fx_34 : Fm σ σ33 m A := Fm.ext Fm.refl hxt33
                                  obtain ⟨t0_34, -, ta0_34, ta1_34, ta2_34, ta3_34, ta4_34, ta5_34, ta6_34, ta7_34, -, -⟩ := id tx_34
                                  refine s_put F hW (ci := 7) (C := RX3) (T := TX3) (N := 18) (v := .ref a_33) (ty := (.object "java/lang/String")) (t0_34) (tb0) rfl in_X3 tyX3_ok nmX3 12 (by decide) q2291 (fun _ h9 => h9) rfl (by decide +kernel) rfl rfl (Nat.le_of_ble_eq_true rfl) dX3_isOneOf_93 (fun H locs hW => ?_)
                                  obtain ⟨σ36, hσ36⟩ : ∃ z, z = sset σ33 m (.inr (7, [.ref (A 0), .ref (A 1), .ref (A 2), .int (iv 3), .ref (A 3), .int (iv 5), .ref (A 4), .ref (A 5), .int (iv 8), .ref (A 6), .int (nI n), .int (nI p), .ref a_33, .ref (A 7), .int (iv 14), .int (iv 15), .int (iv 16), .int (iv 17)])) := ⟨_, rfl⟩
                                  have hW : Hl g σ36 H locs := by rw [hσ36]; exact hW
                                  have w36 : σ36 m = some (.inr (7, [.ref (A 0), .ref (A 1), .ref (A 2), .int (iv 3), .ref (A 3), .int (iv 5), .ref (A 4), .ref (A 5), .int (iv 8), .ref (A 6), .int (nI n), .int (nI p), .ref a_33, .ref (A 7), .int (iv 14), .int (iv 15), .int (iv 16), .int (iv 17)])) := by rw [hσ36]; exact sset_eq
                                  have f37 : σ36 (A 0) = some (eI g 0 114 (fun x9 => nI ((ar 0) x9))) := by rw [hσ36, sset_ne (sto_ne t0_34 ta0_34 (by simp))]; exact ta0_34
                                  have f38 : σ36 (A 1) = some (eI g 0 114 (fun x9 => nI ((ar 1) x9))) := by rw [hσ36, sset_ne (sto_ne t0_34 ta1_34 (by simp))]; exact ta1_34
                                  have f39 : σ36 (A 2) = some (eI g 0 912 (fun x9 => nI ((ar 2) x9))) := by rw [hσ36, sset_ne (sto_ne t0_34 ta2_34 (by simp))]; exact ta2_34
                                  have f40 : σ36 (A 3) = some (eI g 0 114 (fun x9 => nI ((ar 3) x9))) := by rw [hσ36, sset_ne (sto_ne t0_34 ta3_34 (by simp))]; exact ta3_34
                                  have f41 : σ36 (A 4) = some (eI g 2 2048 (fun x9 => bI (rb x9))) := by rw [hσ36, sset_ne (sto_ne t0_34 ta4_34 (by simp))]; exact ta4_34
                                  have f42 : σ36 (A 5) = some (eI g 3 60 (fun x9 => nI ((ar 5) x9))) := by rw [hσ36, sset_ne (sto_ne t0_34 ta5_34 (by simp))]; exact ta5_34
                                  have f43 : σ36 (A 6) = some (eI g 3 60 (fun x9 => nI ((ar 6) x9))) := by rw [hσ36, sset_ne (sto_ne t0_34 ta6_34 (by simp))]; exact ta6_34
                                  have f44 : σ36 (A 7) = some (eI g 0 3 (fun x9 => nI ((ar 7) x9))) := by rw [hσ36, sset_ne (sto_ne t0_34 ta7_34 (by simp))]; exact ta7_34
                                  have hst_45 : IsStr g σ36 a_33 (kwL 7) := by rw [hσ36]; exact IsStr.setO hst33 t0_34 (by decide)
                                  refine lv_aload_n F.x F.cd dX3_isOneOf_96 rfl (lv_at hl 0 rfl) ?_
                                  refine lv_dup F.x F.cd dX3_isOneOf_97 rfl ?_
                                  refine s_get F hW (ci := 7) (C := RX3) (T := TX3) (N := 18) (v := .int (nI p)) (w36) rfl in_X3 11 (by decide) q2290 (fun _ h9 => h9) rfl dX3_isOneOf_98 ?_
                                  refine lv_iload F.x F.cd dX3_isOneOf_101 (lv_at hl 5 rfl) ?_
                                  refine a_iadd (v := (nI (p + (cpw (ar 6) n p 7)))) F (nI_add _ _) dX3_isOneOf_103 ?_
                                  refine s_put F hW (ci := 7) (C := RX3) (T := TX3) (N := 18) (v := .int (nI (p + (cpw (ar 6) n p 7)))) (ty := .int) (w36) (tb0) rfl in_X3 tyX3_ok nmX3 11 (by decide) q2290 (fun _ h9 => h9) rfl (by decide +kernel) rfl rfl (Nat.le_of_ble_eq_true rfl) dX3_isOneOf_104 (fun H locs hW => ?_)
                                  obtain ⟨σ47, hσ47⟩ : ∃ z, z = sset σ36 m (.inr (7, [.ref (A 0), .ref (A 1), .ref (A 2), .int (iv 3), .ref (A 3), .int (iv 5), .ref (A 4), .ref (A 5), .int (iv 8), .ref (A 6), .int (nI n), .int (nI (p + (cpw (ar 6) n p 7))), .ref a_33, .ref (A 7), .int (iv 14), .int (iv 15), .int (iv 16), .int (iv 17)])) := ⟨_, rfl⟩
                                  have hW : Hl g σ47 H locs := by rw [hσ47]; exact hW
                                  have w47 : σ47 m = some (.inr (7, [.ref (A 0), .ref (A 1), .ref (A 2), .int (iv 3), .ref (A 3), .int (iv 5), .ref (A 4), .ref (A 5), .int (iv 8), .ref (A 6), .int (nI n), .int (nI (p + (cpw (ar 6) n p 7))), .ref a_33, .ref (A 7), .int (iv 14), .int (iv 15), .int (iv 16), .int (iv 17)])) := by rw [hσ47]; exact sset_eq
                                  have f48 : σ47 (A 0) = some (eI g 0 114 (fun x9 => nI ((ar 0) x9))) := by rw [hσ47, sset_ne (sto_ne w36 f37 (by simp))]; exact f37
                                  have f49 : σ47 (A 1) = some (eI g 0 114 (fun x9 => nI ((ar 1) x9))) := by rw [hσ47, sset_ne (sto_ne w36 f38 (by simp))]; exact f38
                                  have f50 : σ47 (A 2) = some (eI g 0 912 (fun x9 => nI ((ar 2) x9))) := by rw [hσ47, sset_ne (sto_ne w36 f39 (by simp))]; exact f39
                                  have f51 : σ47 (A 3) = some (eI g 0 114 (fun x9 => nI ((ar 3) x9))) := by rw [hσ47, sset_ne (sto_ne w36 f40 (by simp))]; exact f40
                                  have f52 : σ47 (A 4) = some (eI g 2 2048 (fun x9 => bI (rb x9))) := by rw [hσ47, sset_ne (sto_ne w36 f41 (by simp))]; exact f41
                                  have f53 : σ47 (A 5) = some (eI g 3 60 (fun x9 => nI ((ar 5) x9))) := by rw [hσ47, sset_ne (sto_ne w36 f42 (by simp))]; exact f42
                                  have f54 : σ47 (A 6) = some (eI g 3 60 (fun x9 => nI ((ar 6) x9))) := by rw [hσ47, sset_ne (sto_ne w36 f43 (by simp))]; exact f43
                                  have f55 : σ47 (A 7) = some (eI g 0 3 (fun x9 => nI ((ar 7) x9))) := by rw [hσ47, sset_ne (sto_ne w36 f44 (by simp))]; exact f44
                                  have hst_56 : IsStr g σ47 a_33 (kwL 7) := by rw [hσ47]; exact IsStr.setO hst_45 w36 (by decide)
                                  have tw57 : IsTw g σ47 m A (va_up (va_up iv 10 (nI n)) 11 (nI (p + (cpw (ar 6) n p 7)))) a_33 ar rb := ⟨w47, tb0, f48, f49, f50, f51, f52, f53, f54, f55, tbb, tii⟩
                                  have fm57 : Fm σ σ47 m A := by rw [hσ47, hσ36]; exact ((fx_34).setM).setM
                                  have tw_58 : IsTw g σ47 m A (va_up (va_up iv 10 (nI n)) 11 (nI (p + 4))) a_33 ar rb := by
                                    rw [show p + 4 = p + cpw (ar 6) n p 7 by rw [c_82]]
                                    exact ⟨w47, tb0, f48, f49, f50, f51, f52, f53, f54, f55, tbb, tii⟩
                                  obtain ⟨t0_58, -, ta0_58, ta1_58, ta2_58, ta3_58, ta4_58, ta5_58, ta6_58, ta7_58, -, -⟩ := id tw_58
                                  refine lv_iconst (v := (nI 1)) F.x F.cd dX3_isOneOf_107 (by decide) ?_
                                  subst hQ
                                  exact s_reti (v := (nI 1)) F hW (by decide) (Or.inl ⟨7, by decide, hall7, c_82, rfl, a_33, by assumption, hst_56, tw_58, fm57⟩) ⟨(Nat.le_of_ble_eq_true rfl), (Nat.le_of_ble_eq_true rfl)⟩ dX3_isOneOf_108
                              have loop24 : ∀ (nk : Nat) (k : Nat), k + nk = 4 → (cpl (ar 6) n p 44 k nk = cpw (ar 6) n p 7) → p + k ≤ n → ∀ (H : Heap) (locs : List Loc) (ls : Array Slot), Hl g σ H locs → lv_has ls 6 [(0, .ref m), (1, .ref a), (2, .int (nI (max (max (max (max (max (max (max 0 (cpw (ar 6) n p 0)) (cpw (ar 6) n p 1)) (cpw (ar 6) n p 2)) (cpw (ar 6) n p 3)) (cpw (ar 6) n p 4)) (cpw (ar 6) n p 5)) (cpw (ar 6) n p 6)))), (3, .int (nI 44)), (4, .int (nI 48)), (5, .int (nI k))] → W p_ l e_ ({ frames := 5, cells := 2, slots := 132, locals := 152 } : Room) s_ m_ args_ below_ meth_ c_ H locs 0 0 Q (F0 m_ 24 ls ([])) := by
                                intro nk
                                induction nk with
                                | zero =>
                                  intro k hknk hfd hpk H locs ls hW hl
                                  refine lv_iload F.x F.cd dX3_isOneOf_24 (lv_at hl 5 rfl) ?_
                                  refine lv_iload F.x F.cd dX3_isOneOf_26 (lv_at hl 4 rfl) ?_
                                  refine lv_iload_n F.x F.cd dX3_isOneOf_28 rfl (lv_at hl 3 rfl) ?_
                                  refine a_isub (v := (nI 4)) F (by decide) dX3_isOneOf_29 ?_
                                  refine n_icmp_ge (a := k) (b := 4) (tgt := 76) F (by omega) (by omega) dX3_isOneOf_30 (by decide) (fun c_30 => ?_) (fun c_30 => ?_)
                                  · rw [cpl] at hfd
                                    have hl : lv_has ls 6 [(0, .ref m), (1, .ref a), (2, .int (nI (max (max (max (max (max (max (max 0 (cpw (ar 6) n p 0)) (cpw (ar 6) n p 1)) (cpw (ar 6) n p 2)) (cpw (ar 6) n p 3)) (cpw (ar 6) n p 4)) (cpw (ar 6) n p 5)) (cpw (ar 6) n p 6)))), (3, .int (nI 44)), (4, .int (nI 48)), (5, .int (nI (cpw (ar 6) n p 7)))] := by rw [← hfd]; exact hl
                                    exact kont7 H locs ls hW (lv_sub hl [0, 1, 2, 3, 4, 5] rfl)
                                  · exact absurd c_30 (by omega)
                                | succ nk ih24 =>
                                  intro k hknk hfd hpk H locs ls hW hl
                                  refine lv_iload F.x F.cd dX3_isOneOf_24 (lv_at hl 5 rfl) ?_
                                  refine lv_iload F.x F.cd dX3_isOneOf_26 (lv_at hl 4 rfl) ?_
                                  refine lv_iload_n F.x F.cd dX3_isOneOf_28 rfl (lv_at hl 3 rfl) ?_
                                  refine a_isub (v := (nI 4)) F (by decide) dX3_isOneOf_29 ?_
                                  refine n_icmp_ge (a := k) (b := 4) (tgt := 76) F (by omega) (by omega) dX3_isOneOf_30 (by decide) (fun c_30 => ?_) (fun c_30 => ?_)
                                  · exact absurd c_30 (by omega)
                                  · refine lv_aload_n F.x F.cd dX3_isOneOf_33 rfl (lv_at hl 0 rfl) ?_
                                    refine s_get F hW (ci := 7) (C := RX3) (T := TX3) (N := 18) (v := .int (nI p)) (t0_1) rfl in_X3 11 (by decide) q2290 (fun _ h9 => h9) rfl dX3_isOneOf_34 ?_
                                    refine lv_iload F.x F.cd dX3_isOneOf_37 (lv_at hl 5 rfl) ?_
                                    refine a_iadd (v := (nI (p + k))) F (nI_add _ _) dX3_isOneOf_39 ?_
                                    refine lv_aload_n F.x F.cd dX3_isOneOf_40 rfl (lv_at hl 0 rfl) ?_
                                    refine s_get F hW (ci := 7) (C := RX3) (T := TX3) (N := 18) (v := .int (nI n)) (t0_1) rfl in_X3 10 (by decide) q2289 (fun _ h9 => h9) rfl dX3_isOneOf_41 ?_
                                    refine n_icmp_ge (a := p + k) (b := n) (tgt := 76) F (by omega) (by omega) dX3_isOneOf_44 (by decide) (fun c_44 => ?_) (fun c_44 => ?_)
                                    · have h9f : ¬ (p + k < n ∧ ar 6 (p + k) = WL.getD (44 + k) 0) := fun h9 => absurd h9.1 (by omega)
                                      rw [cpl_f h9f] at hfd
                                      have hl : lv_has ls 6 [(0, .ref m), (1, .ref a), (2, .int (nI (max (max (max (max (max (max (max 0 (cpw (ar 6) n p 0)) (cpw (ar 6) n p 1)) (cpw (ar 6) n p 2)) (cpw (ar 6) n p 3)) (cpw (ar 6) n p 4)) (cpw (ar 6) n p 5)) (cpw (ar 6) n p 6)))), (3, .int (nI 44)), (4, .int (nI 48)), (5, .int (nI (cpw (ar 6) n p 7)))] := by rw [← hfd]; exact hl
                                      exact kont7 H locs ls hW (lv_sub hl [0, 1, 2, 3, 4, 5] rfl)
                                    · have hTp := hT (p + k) (by omega)
                                      have hWp := bts_lt hL (44 + k)
                                      refine lv_aload_n F.x F.cd dX3_isOneOf_47 rfl (lv_at hl 0 rfl) ?_
                                      refine s_get F hW (ci := 7) (C := RX3) (T := TX3) (N := 18) (v := .ref (A 6)) (t0_1) rfl in_X3 9 (by decide) q2288 (fun _ h9 => h9) rfl dX3_isOneOf_48 ?_
                                      refine lv_aload_n F.x F.cd dX3_isOneOf_51 rfl (lv_at hl 0 rfl) ?_
                                      refine s_get F hW (ci := 7) (C := RX3) (T := TX3) (N := 18) (v := .int (nI p)) (t0_1) rfl in_X3 11 (by decide) q2290 (fun _ h9 => h9) rfl dX3_isOneOf_52 ?_
                                      refine lv_iload F.x F.cd dX3_isOneOf_55 (lv_at hl 5 rfl) ?_
                                      refine a_iadd (v := (nI (p + k))) F (nI_add _ _) dX3_isOneOf_57 ?_
                                      refine n_cald (i := p + k) (n := 60) (f := (fun x9 => nI ((ar 6) x9))) (x := (nI ((ar 6) (p + k)))) F hW (ta6_1) (by omega) (by omega) (rfl) dX3_isOneOf_58 ?_
                                      refine lv_aload_n F.x F.cd dX3_isOneOf_59 rfl (lv_at hl 1 rfl) ?_
                                      refine lv_iload_n F.x F.cd dX3_isOneOf_60 rfl (lv_at hl 3 rfl) ?_
                                      refine lv_iload F.x F.cd dX3_isOneOf_61 (lv_at hl 5 rfl) ?_
                                      refine a_iadd (v := (nI (44 + k))) F (nI_add _ _) dX3_isOneOf_63 ?_
                                      refine s_callV (As := [.int (nI (44 + k))]) (rest := [.int (nI ((ar 6) (p + k)))]) (C := RJ7) (T := TJ7) (N := 4) (n := 1) F hW (k_J7_charAt g l σ a WL (44 + k) hs (by omega) (by omega)) (e0) rfl q2742 q1893 q1894 q77 q1895 rfl (by decide +kernel) rfl ⟨⟨Nat.le_of_ble_eq_true rfl, Nat.le_of_ble_eq_true rfl⟩, ⟨(Nat.le_of_ble_eq_true rfl), (Nat.le_of_ble_eq_true rfl)⟩⟩ (Nat.le_of_ble_eq_true rfl) hl.1 rfl dX3_isOneOf_64 cX_no (fun r59 σ59 H locs hp59 hW => ?_)
                                      obtain ⟨rfl, hs59⟩ := hp59
                                      rw [hs59] at hW
                                      refine W.eq (g2 := F0 m_ 67 ls (.int (nI (WL.getD (44 + k) 0)) :: .int (nI ((ar 6) (p + k))) :: [])) rfl ?_
                                      refine n_icmp_ne (a := (ar 6) (p + k)) (b := WL.getD (44 + k) 0) (tgt := 76) F (by omega) (by omega) dX3_isOneOf_67 (by decide) (fun c_67 => ?_) (fun c_67 => ?_)
                                      · have h9f : ¬ (p + k < n ∧ ar 6 (p + k) = WL.getD (44 + k) 0) := fun h9 => c_67 h9.2
                                        rw [cpl_f h9f] at hfd
                                        have hl : lv_has ls 6 [(0, .ref m), (1, .ref a), (2, .int (nI (max (max (max (max (max (max (max 0 (cpw (ar 6) n p 0)) (cpw (ar 6) n p 1)) (cpw (ar 6) n p 2)) (cpw (ar 6) n p 3)) (cpw (ar 6) n p 4)) (cpw (ar 6) n p 5)) (cpw (ar 6) n p 6)))), (3, .int (nI 44)), (4, .int (nI 48)), (5, .int (nI (cpw (ar 6) n p 7)))] := by rw [← hfd]; exact hl
                                        exact kont7 H locs ls hW (lv_sub hl [0, 1, 2, 3, 4, 5] rfl)
                                      · have h9t : p + k < n ∧ ar 6 (p + k) = WL.getD (44 + k) 0 := ⟨by omega, c_67⟩
                                        refine lv_iinc (k := 5) (v := (nI (k + 1))) (lv' := [(5, .int (nI (k + 1))), (0, .ref m), (1, .ref a), (2, .int (nI (max (max (max (max (max (max (max 0 (cpw (ar 6) n p 0)) (cpw (ar 6) n p 1)) (cpw (ar 6) n p 2)) (cpw (ar 6) n p 3)) (cpw (ar 6) n p 4)) (cpw (ar 6) n p 5)) (cpw (ar 6) n p 6)))), (3, .int (nI 44)), (4, .int (nI 48))]) F.x F.cd dX3_isOneOf_70 hl rfl (inc_nI k 1) (by decide) rfl (fun ls hl => ?_)
                                        refine lv_goto (tgt := 24) F.x F.cd dX3_isOneOf_73 (by decide) ?_
                                        exact ih24 (k + 1) (by omega) (by rw [cpl_t h9t] at hfd; exact hfd) (by omega) H locs ls hW (lv_sub hl [1, 2, 3, 4, 5, 0] rfl)
                              exact loop24 (4) 0 (by omega) (rfl) (by omega) H locs ls hW (lv_sub hl [4, 5, 3, 2, 1, 0] rfl)
                            · refine lv_aload_n F.x F.cd dX3_isOneOf_85 rfl (lv_at hl 0 rfl) ?_
                              refine lv_aload_n F.x F.cd dX3_isOneOf_86 rfl (lv_at hl 1 rfl) ?_
                              refine lv_iload_n F.x F.cd dX3_isOneOf_87 rfl (lv_at hl 3 rfl) ?_
                              refine lv_iload F.x F.cd dX3_isOneOf_88 (lv_at hl 4 rfl) ?_
                              refine s_callV (As := [.int (nI 37), .int (nI 43)]) (rest := [.ref m]) (C := RJ7) (T := TJ7) (N := 4) (n := 2) F hW (k_J7_substring g l σ a WL 37 43 hs (by decide) (by decide) (by decide) (by decide) (by decide)) (e0) rfl q2743 q2744 q2745 q77 q2746 rfl (by decide +kernel) rfl ⟨⟨Nat.le_of_ble_eq_true rfl, Nat.le_of_ble_eq_true rfl⟩, ⟨(Nat.le_of_ble_eq_true rfl), (Nat.le_of_ble_eq_true rfl)⟩⟩ (Nat.le_of_ble_eq_true rfl) hl.1 rfl dX3_isOneOf_90 cX_no (fun r60 σ60 H locs hp60 hW => ?_)
                              obtain ⟨a_60, rfl, hba60, hna60, hst60, hxt60⟩ := hp60
                              refine W.eq (g2 := F0 m_ 93 ls (.ref a_60 :: .ref m :: [])) rfl ?_
                              have tx_61 := IsTw.ext tw_1 hxt60
                              have fx_61 : Fm σ σ60 m A := Fm.ext Fm.refl hxt60
                              obtain ⟨t0_61, -, ta0_61, ta1_61, ta2_61, ta3_61, ta4_61, ta5_61, ta6_61, ta7_61, -, -⟩ := id tx_61
                              refine s_put F hW (ci := 7) (C := RX3) (T := TX3) (N := 18) (v := .ref a_60) (ty := (.object "java/lang/String")) (t0_61) (tb0) rfl in_X3 tyX3_ok nmX3 12 (by decide) q2291 (fun _ h9 => h9) rfl (by decide +kernel) rfl rfl (Nat.le_of_ble_eq_true rfl) dX3_isOneOf_93 (fun H locs hW => ?_)
                              obtain ⟨σ63, hσ63⟩ : ∃ z, z = sset σ60 m (.inr (7, [.ref (A 0), .ref (A 1), .ref (A 2), .int (iv 3), .ref (A 3), .int (iv 5), .ref (A 4), .ref (A 5), .int (iv 8), .ref (A 6), .int (nI n), .int (nI p), .ref a_60, .ref (A 7), .int (iv 14), .int (iv 15), .int (iv 16), .int (iv 17)])) := ⟨_, rfl⟩
                              have hW : Hl g σ63 H locs := by rw [hσ63]; exact hW
                              have w63 : σ63 m = some (.inr (7, [.ref (A 0), .ref (A 1), .ref (A 2), .int (iv 3), .ref (A 3), .int (iv 5), .ref (A 4), .ref (A 5), .int (iv 8), .ref (A 6), .int (nI n), .int (nI p), .ref a_60, .ref (A 7), .int (iv 14), .int (iv 15), .int (iv 16), .int (iv 17)])) := by rw [hσ63]; exact sset_eq
                              have f64 : σ63 (A 0) = some (eI g 0 114 (fun x9 => nI ((ar 0) x9))) := by rw [hσ63, sset_ne (sto_ne t0_61 ta0_61 (by simp))]; exact ta0_61
                              have f65 : σ63 (A 1) = some (eI g 0 114 (fun x9 => nI ((ar 1) x9))) := by rw [hσ63, sset_ne (sto_ne t0_61 ta1_61 (by simp))]; exact ta1_61
                              have f66 : σ63 (A 2) = some (eI g 0 912 (fun x9 => nI ((ar 2) x9))) := by rw [hσ63, sset_ne (sto_ne t0_61 ta2_61 (by simp))]; exact ta2_61
                              have f67 : σ63 (A 3) = some (eI g 0 114 (fun x9 => nI ((ar 3) x9))) := by rw [hσ63, sset_ne (sto_ne t0_61 ta3_61 (by simp))]; exact ta3_61
                              have f68 : σ63 (A 4) = some (eI g 2 2048 (fun x9 => bI (rb x9))) := by rw [hσ63, sset_ne (sto_ne t0_61 ta4_61 (by simp))]; exact ta4_61
                              have f69 : σ63 (A 5) = some (eI g 3 60 (fun x9 => nI ((ar 5) x9))) := by rw [hσ63, sset_ne (sto_ne t0_61 ta5_61 (by simp))]; exact ta5_61
                              have f70 : σ63 (A 6) = some (eI g 3 60 (fun x9 => nI ((ar 6) x9))) := by rw [hσ63, sset_ne (sto_ne t0_61 ta6_61 (by simp))]; exact ta6_61
                              have f71 : σ63 (A 7) = some (eI g 0 3 (fun x9 => nI ((ar 7) x9))) := by rw [hσ63, sset_ne (sto_ne t0_61 ta7_61 (by simp))]; exact ta7_61
                              have hst_72 : IsStr g σ63 a_60 (kwL 6) := by rw [hσ63]; exact IsStr.setO hst60 t0_61 (by decide)
                              refine lv_aload_n F.x F.cd dX3_isOneOf_96 rfl (lv_at hl 0 rfl) ?_
                              refine lv_dup F.x F.cd dX3_isOneOf_97 rfl ?_
                              refine s_get F hW (ci := 7) (C := RX3) (T := TX3) (N := 18) (v := .int (nI p)) (w63) rfl in_X3 11 (by decide) q2290 (fun _ h9 => h9) rfl dX3_isOneOf_98 ?_
                              refine lv_iload F.x F.cd dX3_isOneOf_101 (lv_at hl 5 rfl) ?_
                              refine a_iadd (v := (nI (p + (cpw (ar 6) n p 6)))) F (nI_add _ _) dX3_isOneOf_103 ?_
                              refine s_put F hW (ci := 7) (C := RX3) (T := TX3) (N := 18) (v := .int (nI (p + (cpw (ar 6) n p 6)))) (ty := .int) (w63) (tb0) rfl in_X3 tyX3_ok nmX3 11 (by decide) q2290 (fun _ h9 => h9) rfl (by decide +kernel) rfl rfl (Nat.le_of_ble_eq_true rfl) dX3_isOneOf_104 (fun H locs hW => ?_)
                              obtain ⟨σ74, hσ74⟩ : ∃ z, z = sset σ63 m (.inr (7, [.ref (A 0), .ref (A 1), .ref (A 2), .int (iv 3), .ref (A 3), .int (iv 5), .ref (A 4), .ref (A 5), .int (iv 8), .ref (A 6), .int (nI n), .int (nI (p + (cpw (ar 6) n p 6))), .ref a_60, .ref (A 7), .int (iv 14), .int (iv 15), .int (iv 16), .int (iv 17)])) := ⟨_, rfl⟩
                              have hW : Hl g σ74 H locs := by rw [hσ74]; exact hW
                              have w74 : σ74 m = some (.inr (7, [.ref (A 0), .ref (A 1), .ref (A 2), .int (iv 3), .ref (A 3), .int (iv 5), .ref (A 4), .ref (A 5), .int (iv 8), .ref (A 6), .int (nI n), .int (nI (p + (cpw (ar 6) n p 6))), .ref a_60, .ref (A 7), .int (iv 14), .int (iv 15), .int (iv 16), .int (iv 17)])) := by rw [hσ74]; exact sset_eq
                              have f75 : σ74 (A 0) = some (eI g 0 114 (fun x9 => nI ((ar 0) x9))) := by rw [hσ74, sset_ne (sto_ne w63 f64 (by simp))]; exact f64
                              have f76 : σ74 (A 1) = some (eI g 0 114 (fun x9 => nI ((ar 1) x9))) := by rw [hσ74, sset_ne (sto_ne w63 f65 (by simp))]; exact f65
                              have f77 : σ74 (A 2) = some (eI g 0 912 (fun x9 => nI ((ar 2) x9))) := by rw [hσ74, sset_ne (sto_ne w63 f66 (by simp))]; exact f66
                              have f78 : σ74 (A 3) = some (eI g 0 114 (fun x9 => nI ((ar 3) x9))) := by rw [hσ74, sset_ne (sto_ne w63 f67 (by simp))]; exact f67
                              have f79 : σ74 (A 4) = some (eI g 2 2048 (fun x9 => bI (rb x9))) := by rw [hσ74, sset_ne (sto_ne w63 f68 (by simp))]; exact f68
                              have f80 : σ74 (A 5) = some (eI g 3 60 (fun x9 => nI ((ar 5) x9))) := by rw [hσ74, sset_ne (sto_ne w63 f69 (by simp))]; exact f69
                              have f81 : σ74 (A 6) = some (eI g 3 60 (fun x9 => nI ((ar 6) x9))) := by rw [hσ74, sset_ne (sto_ne w63 f70 (by simp))]; exact f70
                              have f82 : σ74 (A 7) = some (eI g 0 3 (fun x9 => nI ((ar 7) x9))) := by rw [hσ74, sset_ne (sto_ne w63 f71 (by simp))]; exact f71
                              have hst_83 : IsStr g σ74 a_60 (kwL 6) := by rw [hσ74]; exact IsStr.setO hst_72 w63 (by decide)
                              have tw84 : IsTw g σ74 m A (va_up (va_up iv 10 (nI n)) 11 (nI (p + (cpw (ar 6) n p 6)))) a_60 ar rb := ⟨w74, tb0, f75, f76, f77, f78, f79, f80, f81, f82, tbb, tii⟩
                              have fm84 : Fm σ σ74 m A := by rw [hσ74, hσ63]; exact ((fx_61).setM).setM
                              have tw_85 : IsTw g σ74 m A (va_up (va_up iv 10 (nI n)) 11 (nI (p + 6))) a_60 ar rb := by
                                rw [show p + 6 = p + cpw (ar 6) n p 6 by rw [c_82]]
                                exact ⟨w74, tb0, f75, f76, f77, f78, f79, f80, f81, f82, tbb, tii⟩
                              obtain ⟨t0_85, -, ta0_85, ta1_85, ta2_85, ta3_85, ta4_85, ta5_85, ta6_85, ta7_85, -, -⟩ := id tw_85
                              refine lv_iconst (v := (nI 1)) F.x F.cd dX3_isOneOf_107 (by decide) ?_
                              subst hQ
                              exact s_reti (v := (nI 1)) F hW (by decide) (Or.inl ⟨6, by decide, hall6, c_82, rfl, a_60, by assumption, hst_83, tw_85, fm84⟩) ⟨(Nat.le_of_ble_eq_true rfl), (Nat.le_of_ble_eq_true rfl)⟩ dX3_isOneOf_108
                          have loop24 : ∀ (nk : Nat) (k : Nat), k + nk = 6 → (cpl (ar 6) n p 37 k nk = cpw (ar 6) n p 6) → p + k ≤ n → ∀ (H : Heap) (locs : List Loc) (ls : Array Slot), Hl g σ H locs → lv_has ls 6 [(0, .ref m), (1, .ref a), (2, .int (nI (max (max (max (max (max (max 0 (cpw (ar 6) n p 0)) (cpw (ar 6) n p 1)) (cpw (ar 6) n p 2)) (cpw (ar 6) n p 3)) (cpw (ar 6) n p 4)) (cpw (ar 6) n p 5)))), (3, .int (nI 37)), (4, .int (nI 43)), (5, .int (nI k))] → W p_ l e_ ({ frames := 5, cells := 2, slots := 132, locals := 152 } : Room) s_ m_ args_ below_ meth_ c_ H locs 0 0 Q (F0 m_ 24 ls ([])) := by
                            intro nk
                            induction nk with
                            | zero =>
                              intro k hknk hfd hpk H locs ls hW hl
                              refine lv_iload F.x F.cd dX3_isOneOf_24 (lv_at hl 5 rfl) ?_
                              refine lv_iload F.x F.cd dX3_isOneOf_26 (lv_at hl 4 rfl) ?_
                              refine lv_iload_n F.x F.cd dX3_isOneOf_28 rfl (lv_at hl 3 rfl) ?_
                              refine a_isub (v := (nI 6)) F (by decide) dX3_isOneOf_29 ?_
                              refine n_icmp_ge (a := k) (b := 6) (tgt := 76) F (by omega) (by omega) dX3_isOneOf_30 (by decide) (fun c_30 => ?_) (fun c_30 => ?_)
                              · rw [cpl] at hfd
                                have hl : lv_has ls 6 [(0, .ref m), (1, .ref a), (2, .int (nI (max (max (max (max (max (max 0 (cpw (ar 6) n p 0)) (cpw (ar 6) n p 1)) (cpw (ar 6) n p 2)) (cpw (ar 6) n p 3)) (cpw (ar 6) n p 4)) (cpw (ar 6) n p 5)))), (3, .int (nI 37)), (4, .int (nI 43)), (5, .int (nI (cpw (ar 6) n p 6)))] := by rw [← hfd]; exact hl
                                exact kont6 H locs ls hW (lv_sub hl [0, 1, 2, 3, 4, 5] rfl)
                              · exact absurd c_30 (by omega)
                            | succ nk ih24 =>
                              intro k hknk hfd hpk H locs ls hW hl
                              refine lv_iload F.x F.cd dX3_isOneOf_24 (lv_at hl 5 rfl) ?_
                              refine lv_iload F.x F.cd dX3_isOneOf_26 (lv_at hl 4 rfl) ?_
                              refine lv_iload_n F.x F.cd dX3_isOneOf_28 rfl (lv_at hl 3 rfl) ?_
                              refine a_isub (v := (nI 6)) F (by decide) dX3_isOneOf_29 ?_
                              refine n_icmp_ge (a := k) (b := 6) (tgt := 76) F (by omega) (by omega) dX3_isOneOf_30 (by decide) (fun c_30 => ?_) (fun c_30 => ?_)
                              · exact absurd c_30 (by omega)
                              · refine lv_aload_n F.x F.cd dX3_isOneOf_33 rfl (lv_at hl 0 rfl) ?_
                                refine s_get F hW (ci := 7) (C := RX3) (T := TX3) (N := 18) (v := .int (nI p)) (t0_1) rfl in_X3 11 (by decide) q2290 (fun _ h9 => h9) rfl dX3_isOneOf_34 ?_
                                refine lv_iload F.x F.cd dX3_isOneOf_37 (lv_at hl 5 rfl) ?_
                                refine a_iadd (v := (nI (p + k))) F (nI_add _ _) dX3_isOneOf_39 ?_
                                refine lv_aload_n F.x F.cd dX3_isOneOf_40 rfl (lv_at hl 0 rfl) ?_
                                refine s_get F hW (ci := 7) (C := RX3) (T := TX3) (N := 18) (v := .int (nI n)) (t0_1) rfl in_X3 10 (by decide) q2289 (fun _ h9 => h9) rfl dX3_isOneOf_41 ?_
                                refine n_icmp_ge (a := p + k) (b := n) (tgt := 76) F (by omega) (by omega) dX3_isOneOf_44 (by decide) (fun c_44 => ?_) (fun c_44 => ?_)
                                · have h9f : ¬ (p + k < n ∧ ar 6 (p + k) = WL.getD (37 + k) 0) := fun h9 => absurd h9.1 (by omega)
                                  rw [cpl_f h9f] at hfd
                                  have hl : lv_has ls 6 [(0, .ref m), (1, .ref a), (2, .int (nI (max (max (max (max (max (max 0 (cpw (ar 6) n p 0)) (cpw (ar 6) n p 1)) (cpw (ar 6) n p 2)) (cpw (ar 6) n p 3)) (cpw (ar 6) n p 4)) (cpw (ar 6) n p 5)))), (3, .int (nI 37)), (4, .int (nI 43)), (5, .int (nI (cpw (ar 6) n p 6)))] := by rw [← hfd]; exact hl
                                  exact kont6 H locs ls hW (lv_sub hl [0, 1, 2, 3, 4, 5] rfl)
                                · have hTp := hT (p + k) (by omega)
                                  have hWp := bts_lt hL (37 + k)
                                  refine lv_aload_n F.x F.cd dX3_isOneOf_47 rfl (lv_at hl 0 rfl) ?_
                                  refine s_get F hW (ci := 7) (C := RX3) (T := TX3) (N := 18) (v := .ref (A 6)) (t0_1) rfl in_X3 9 (by decide) q2288 (fun _ h9 => h9) rfl dX3_isOneOf_48 ?_
                                  refine lv_aload_n F.x F.cd dX3_isOneOf_51 rfl (lv_at hl 0 rfl) ?_
                                  refine s_get F hW (ci := 7) (C := RX3) (T := TX3) (N := 18) (v := .int (nI p)) (t0_1) rfl in_X3 11 (by decide) q2290 (fun _ h9 => h9) rfl dX3_isOneOf_52 ?_
                                  refine lv_iload F.x F.cd dX3_isOneOf_55 (lv_at hl 5 rfl) ?_
                                  refine a_iadd (v := (nI (p + k))) F (nI_add _ _) dX3_isOneOf_57 ?_
                                  refine n_cald (i := p + k) (n := 60) (f := (fun x9 => nI ((ar 6) x9))) (x := (nI ((ar 6) (p + k)))) F hW (ta6_1) (by omega) (by omega) (rfl) dX3_isOneOf_58 ?_
                                  refine lv_aload_n F.x F.cd dX3_isOneOf_59 rfl (lv_at hl 1 rfl) ?_
                                  refine lv_iload_n F.x F.cd dX3_isOneOf_60 rfl (lv_at hl 3 rfl) ?_
                                  refine lv_iload F.x F.cd dX3_isOneOf_61 (lv_at hl 5 rfl) ?_
                                  refine a_iadd (v := (nI (37 + k))) F (nI_add _ _) dX3_isOneOf_63 ?_
                                  refine s_callV (As := [.int (nI (37 + k))]) (rest := [.int (nI ((ar 6) (p + k)))]) (C := RJ7) (T := TJ7) (N := 4) (n := 1) F hW (k_J7_charAt g l σ a WL (37 + k) hs (by omega) (by omega)) (e0) rfl q2742 q1893 q1894 q77 q1895 rfl (by decide +kernel) rfl ⟨⟨Nat.le_of_ble_eq_true rfl, Nat.le_of_ble_eq_true rfl⟩, ⟨(Nat.le_of_ble_eq_true rfl), (Nat.le_of_ble_eq_true rfl)⟩⟩ (Nat.le_of_ble_eq_true rfl) hl.1 rfl dX3_isOneOf_64 cX_no (fun r86 σ86 H locs hp86 hW => ?_)
                                  obtain ⟨rfl, hs86⟩ := hp86
                                  rw [hs86] at hW
                                  refine W.eq (g2 := F0 m_ 67 ls (.int (nI (WL.getD (37 + k) 0)) :: .int (nI ((ar 6) (p + k))) :: [])) rfl ?_
                                  refine n_icmp_ne (a := (ar 6) (p + k)) (b := WL.getD (37 + k) 0) (tgt := 76) F (by omega) (by omega) dX3_isOneOf_67 (by decide) (fun c_67 => ?_) (fun c_67 => ?_)
                                  · have h9f : ¬ (p + k < n ∧ ar 6 (p + k) = WL.getD (37 + k) 0) := fun h9 => c_67 h9.2
                                    rw [cpl_f h9f] at hfd
                                    have hl : lv_has ls 6 [(0, .ref m), (1, .ref a), (2, .int (nI (max (max (max (max (max (max 0 (cpw (ar 6) n p 0)) (cpw (ar 6) n p 1)) (cpw (ar 6) n p 2)) (cpw (ar 6) n p 3)) (cpw (ar 6) n p 4)) (cpw (ar 6) n p 5)))), (3, .int (nI 37)), (4, .int (nI 43)), (5, .int (nI (cpw (ar 6) n p 6)))] := by rw [← hfd]; exact hl
                                    exact kont6 H locs ls hW (lv_sub hl [0, 1, 2, 3, 4, 5] rfl)
                                  · have h9t : p + k < n ∧ ar 6 (p + k) = WL.getD (37 + k) 0 := ⟨by omega, c_67⟩
                                    refine lv_iinc (k := 5) (v := (nI (k + 1))) (lv' := [(5, .int (nI (k + 1))), (0, .ref m), (1, .ref a), (2, .int (nI (max (max (max (max (max (max 0 (cpw (ar 6) n p 0)) (cpw (ar 6) n p 1)) (cpw (ar 6) n p 2)) (cpw (ar 6) n p 3)) (cpw (ar 6) n p 4)) (cpw (ar 6) n p 5)))), (3, .int (nI 37)), (4, .int (nI 43))]) F.x F.cd dX3_isOneOf_70 hl rfl (inc_nI k 1) (by decide) rfl (fun ls hl => ?_)
                                    refine lv_goto (tgt := 24) F.x F.cd dX3_isOneOf_73 (by decide) ?_
                                    exact ih24 (k + 1) (by omega) (by rw [cpl_t h9t] at hfd; exact hfd) (by omega) H locs ls hW (lv_sub hl [1, 2, 3, 4, 5, 0] rfl)
                          exact loop24 (6) 0 (by omega) (rfl) (by omega) H locs ls hW (lv_sub hl [4, 5, 3, 2, 1, 0] rfl)
                        · refine lv_aload_n F.x F.cd dX3_isOneOf_85 rfl (lv_at hl 0 rfl) ?_
                          refine lv_aload_n F.x F.cd dX3_isOneOf_86 rfl (lv_at hl 1 rfl) ?_
                          refine lv_iload_n F.x F.cd dX3_isOneOf_87 rfl (lv_at hl 3 rfl) ?_
                          refine lv_iload F.x F.cd dX3_isOneOf_88 (lv_at hl 4 rfl) ?_
                          refine s_callV (As := [.int (nI 31), .int (nI 36)]) (rest := [.ref m]) (C := RJ7) (T := TJ7) (N := 4) (n := 2) F hW (k_J7_substring g l σ a WL 31 36 hs (by decide) (by decide) (by decide) (by decide) (by decide)) (e0) rfl q2743 q2744 q2745 q77 q2746 rfl (by decide +kernel) rfl ⟨⟨Nat.le_of_ble_eq_true rfl, Nat.le_of_ble_eq_true rfl⟩, ⟨(Nat.le_of_ble_eq_true rfl), (Nat.le_of_ble_eq_true rfl)⟩⟩ (Nat.le_of_ble_eq_true rfl) hl.1 rfl dX3_isOneOf_90 cX_no (fun r87 σ87 H locs hp87 hW => ?_)
                          obtain ⟨a_87, rfl, hba87, hna87, hst87, hxt87⟩ := hp87
                          refine W.eq (g2 := F0 m_ 93 ls (.ref a_87 :: .ref m :: [])) rfl ?_
                          have tx_88 := IsTw.ext tw_1 hxt87
                          have fx_88 : Fm σ σ87 m A := Fm.ext Fm.refl hxt87
                          obtain ⟨t0_88, -, ta0_88, ta1_88, ta2_88, ta3_88, ta4_88, ta5_88, ta6_88, ta7_88, -, -⟩ := id tx_88
                          refine s_put F hW (ci := 7) (C := RX3) (T := TX3) (N := 18) (v := .ref a_87) (ty := (.object "java/lang/String")) (t0_88) (tb0) rfl in_X3 tyX3_ok nmX3 12 (by decide) q2291 (fun _ h9 => h9) rfl (by decide +kernel) rfl rfl (Nat.le_of_ble_eq_true rfl) dX3_isOneOf_93 (fun H locs hW => ?_)
                          obtain ⟨σ90, hσ90⟩ : ∃ z, z = sset σ87 m (.inr (7, [.ref (A 0), .ref (A 1), .ref (A 2), .int (iv 3), .ref (A 3), .int (iv 5), .ref (A 4), .ref (A 5), .int (iv 8), .ref (A 6), .int (nI n), .int (nI p), .ref a_87, .ref (A 7), .int (iv 14), .int (iv 15), .int (iv 16), .int (iv 17)])) := ⟨_, rfl⟩
                          have hW : Hl g σ90 H locs := by rw [hσ90]; exact hW
                          have w90 : σ90 m = some (.inr (7, [.ref (A 0), .ref (A 1), .ref (A 2), .int (iv 3), .ref (A 3), .int (iv 5), .ref (A 4), .ref (A 5), .int (iv 8), .ref (A 6), .int (nI n), .int (nI p), .ref a_87, .ref (A 7), .int (iv 14), .int (iv 15), .int (iv 16), .int (iv 17)])) := by rw [hσ90]; exact sset_eq
                          have f91 : σ90 (A 0) = some (eI g 0 114 (fun x9 => nI ((ar 0) x9))) := by rw [hσ90, sset_ne (sto_ne t0_88 ta0_88 (by simp))]; exact ta0_88
                          have f92 : σ90 (A 1) = some (eI g 0 114 (fun x9 => nI ((ar 1) x9))) := by rw [hσ90, sset_ne (sto_ne t0_88 ta1_88 (by simp))]; exact ta1_88
                          have f93 : σ90 (A 2) = some (eI g 0 912 (fun x9 => nI ((ar 2) x9))) := by rw [hσ90, sset_ne (sto_ne t0_88 ta2_88 (by simp))]; exact ta2_88
                          have f94 : σ90 (A 3) = some (eI g 0 114 (fun x9 => nI ((ar 3) x9))) := by rw [hσ90, sset_ne (sto_ne t0_88 ta3_88 (by simp))]; exact ta3_88
                          have f95 : σ90 (A 4) = some (eI g 2 2048 (fun x9 => bI (rb x9))) := by rw [hσ90, sset_ne (sto_ne t0_88 ta4_88 (by simp))]; exact ta4_88
                          have f96 : σ90 (A 5) = some (eI g 3 60 (fun x9 => nI ((ar 5) x9))) := by rw [hσ90, sset_ne (sto_ne t0_88 ta5_88 (by simp))]; exact ta5_88
                          have f97 : σ90 (A 6) = some (eI g 3 60 (fun x9 => nI ((ar 6) x9))) := by rw [hσ90, sset_ne (sto_ne t0_88 ta6_88 (by simp))]; exact ta6_88
                          have f98 : σ90 (A 7) = some (eI g 0 3 (fun x9 => nI ((ar 7) x9))) := by rw [hσ90, sset_ne (sto_ne t0_88 ta7_88 (by simp))]; exact ta7_88
                          have hst_99 : IsStr g σ90 a_87 (kwL 5) := by rw [hσ90]; exact IsStr.setO hst87 t0_88 (by decide)
                          refine lv_aload_n F.x F.cd dX3_isOneOf_96 rfl (lv_at hl 0 rfl) ?_
                          refine lv_dup F.x F.cd dX3_isOneOf_97 rfl ?_
                          refine s_get F hW (ci := 7) (C := RX3) (T := TX3) (N := 18) (v := .int (nI p)) (w90) rfl in_X3 11 (by decide) q2290 (fun _ h9 => h9) rfl dX3_isOneOf_98 ?_
                          refine lv_iload F.x F.cd dX3_isOneOf_101 (lv_at hl 5 rfl) ?_
                          refine a_iadd (v := (nI (p + (cpw (ar 6) n p 5)))) F (nI_add _ _) dX3_isOneOf_103 ?_
                          refine s_put F hW (ci := 7) (C := RX3) (T := TX3) (N := 18) (v := .int (nI (p + (cpw (ar 6) n p 5)))) (ty := .int) (w90) (tb0) rfl in_X3 tyX3_ok nmX3 11 (by decide) q2290 (fun _ h9 => h9) rfl (by decide +kernel) rfl rfl (Nat.le_of_ble_eq_true rfl) dX3_isOneOf_104 (fun H locs hW => ?_)
                          obtain ⟨σ101, hσ101⟩ : ∃ z, z = sset σ90 m (.inr (7, [.ref (A 0), .ref (A 1), .ref (A 2), .int (iv 3), .ref (A 3), .int (iv 5), .ref (A 4), .ref (A 5), .int (iv 8), .ref (A 6), .int (nI n), .int (nI (p + (cpw (ar 6) n p 5))), .ref a_87, .ref (A 7), .int (iv 14), .int (iv 15), .int (iv 16), .int (iv 17)])) := ⟨_, rfl⟩
                          have hW : Hl g σ101 H locs := by rw [hσ101]; exact hW
                          have w101 : σ101 m = some (.inr (7, [.ref (A 0), .ref (A 1), .ref (A 2), .int (iv 3), .ref (A 3), .int (iv 5), .ref (A 4), .ref (A 5), .int (iv 8), .ref (A 6), .int (nI n), .int (nI (p + (cpw (ar 6) n p 5))), .ref a_87, .ref (A 7), .int (iv 14), .int (iv 15), .int (iv 16), .int (iv 17)])) := by rw [hσ101]; exact sset_eq
                          have f102 : σ101 (A 0) = some (eI g 0 114 (fun x9 => nI ((ar 0) x9))) := by rw [hσ101, sset_ne (sto_ne w90 f91 (by simp))]; exact f91
                          have f103 : σ101 (A 1) = some (eI g 0 114 (fun x9 => nI ((ar 1) x9))) := by rw [hσ101, sset_ne (sto_ne w90 f92 (by simp))]; exact f92
                          have f104 : σ101 (A 2) = some (eI g 0 912 (fun x9 => nI ((ar 2) x9))) := by rw [hσ101, sset_ne (sto_ne w90 f93 (by simp))]; exact f93
                          have f105 : σ101 (A 3) = some (eI g 0 114 (fun x9 => nI ((ar 3) x9))) := by rw [hσ101, sset_ne (sto_ne w90 f94 (by simp))]; exact f94
                          have f106 : σ101 (A 4) = some (eI g 2 2048 (fun x9 => bI (rb x9))) := by rw [hσ101, sset_ne (sto_ne w90 f95 (by simp))]; exact f95
                          have f107 : σ101 (A 5) = some (eI g 3 60 (fun x9 => nI ((ar 5) x9))) := by rw [hσ101, sset_ne (sto_ne w90 f96 (by simp))]; exact f96
                          have f108 : σ101 (A 6) = some (eI g 3 60 (fun x9 => nI ((ar 6) x9))) := by rw [hσ101, sset_ne (sto_ne w90 f97 (by simp))]; exact f97
                          have f109 : σ101 (A 7) = some (eI g 0 3 (fun x9 => nI ((ar 7) x9))) := by rw [hσ101, sset_ne (sto_ne w90 f98 (by simp))]; exact f98
                          have hst_110 : IsStr g σ101 a_87 (kwL 5) := by rw [hσ101]; exact IsStr.setO hst_99 w90 (by decide)
                          have tw111 : IsTw g σ101 m A (va_up (va_up iv 10 (nI n)) 11 (nI (p + (cpw (ar 6) n p 5)))) a_87 ar rb := ⟨w101, tb0, f102, f103, f104, f105, f106, f107, f108, f109, tbb, tii⟩
                          have fm111 : Fm σ σ101 m A := by rw [hσ101, hσ90]; exact ((fx_88).setM).setM
                          have tw_112 : IsTw g σ101 m A (va_up (va_up iv 10 (nI n)) 11 (nI (p + 5))) a_87 ar rb := by
                            rw [show p + 5 = p + cpw (ar 6) n p 5 by rw [c_82]]
                            exact ⟨w101, tb0, f102, f103, f104, f105, f106, f107, f108, f109, tbb, tii⟩
                          obtain ⟨t0_112, -, ta0_112, ta1_112, ta2_112, ta3_112, ta4_112, ta5_112, ta6_112, ta7_112, -, -⟩ := id tw_112
                          refine lv_iconst (v := (nI 1)) F.x F.cd dX3_isOneOf_107 (by decide) ?_
                          subst hQ
                          exact s_reti (v := (nI 1)) F hW (by decide) (Or.inl ⟨5, by decide, hall5, c_82, rfl, a_87, by assumption, hst_110, tw_112, fm111⟩) ⟨(Nat.le_of_ble_eq_true rfl), (Nat.le_of_ble_eq_true rfl)⟩ dX3_isOneOf_108
                      have loop24 : ∀ (nk : Nat) (k : Nat), k + nk = 5 → (cpl (ar 6) n p 31 k nk = cpw (ar 6) n p 5) → p + k ≤ n → ∀ (H : Heap) (locs : List Loc) (ls : Array Slot), Hl g σ H locs → lv_has ls 6 [(0, .ref m), (1, .ref a), (2, .int (nI (max (max (max (max (max 0 (cpw (ar 6) n p 0)) (cpw (ar 6) n p 1)) (cpw (ar 6) n p 2)) (cpw (ar 6) n p 3)) (cpw (ar 6) n p 4)))), (3, .int (nI 31)), (4, .int (nI 36)), (5, .int (nI k))] → W p_ l e_ ({ frames := 5, cells := 2, slots := 132, locals := 152 } : Room) s_ m_ args_ below_ meth_ c_ H locs 0 0 Q (F0 m_ 24 ls ([])) := by
                        intro nk
                        induction nk with
                        | zero =>
                          intro k hknk hfd hpk H locs ls hW hl
                          refine lv_iload F.x F.cd dX3_isOneOf_24 (lv_at hl 5 rfl) ?_
                          refine lv_iload F.x F.cd dX3_isOneOf_26 (lv_at hl 4 rfl) ?_
                          refine lv_iload_n F.x F.cd dX3_isOneOf_28 rfl (lv_at hl 3 rfl) ?_
                          refine a_isub (v := (nI 5)) F (by decide) dX3_isOneOf_29 ?_
                          refine n_icmp_ge (a := k) (b := 5) (tgt := 76) F (by omega) (by omega) dX3_isOneOf_30 (by decide) (fun c_30 => ?_) (fun c_30 => ?_)
                          · rw [cpl] at hfd
                            have hl : lv_has ls 6 [(0, .ref m), (1, .ref a), (2, .int (nI (max (max (max (max (max 0 (cpw (ar 6) n p 0)) (cpw (ar 6) n p 1)) (cpw (ar 6) n p 2)) (cpw (ar 6) n p 3)) (cpw (ar 6) n p 4)))), (3, .int (nI 31)), (4, .int (nI 36)), (5, .int (nI (cpw (ar 6) n p 5)))] := by rw [← hfd]; exact hl
                            exact kont5 H locs ls hW (lv_sub hl [0, 1, 2, 3, 4, 5] rfl)
                          · exact absurd c_30 (by omega)
                        | succ nk ih24 =>
                          intro k hknk hfd hpk H locs ls hW hl
                          refine lv_iload F.x F.cd dX3_isOneOf_24 (lv_at hl 5 rfl) ?_
                          refine lv_iload F.x F.cd dX3_isOneOf_26 (lv_at hl 4 rfl) ?_
                          refine lv_iload_n F.x F.cd dX3_isOneOf_28 rfl (lv_at hl 3 rfl) ?_
                          refine a_isub (v := (nI 5)) F (by decide) dX3_isOneOf_29 ?_
                          refine n_icmp_ge (a := k) (b := 5) (tgt := 76) F (by omega) (by omega) dX3_isOneOf_30 (by decide) (fun c_30 => ?_) (fun c_30 => ?_)
                          · exact absurd c_30 (by omega)
                          · refine lv_aload_n F.x F.cd dX3_isOneOf_33 rfl (lv_at hl 0 rfl) ?_
                            refine s_get F hW (ci := 7) (C := RX3) (T := TX3) (N := 18) (v := .int (nI p)) (t0_1) rfl in_X3 11 (by decide) q2290 (fun _ h9 => h9) rfl dX3_isOneOf_34 ?_
                            refine lv_iload F.x F.cd dX3_isOneOf_37 (lv_at hl 5 rfl) ?_
                            refine a_iadd (v := (nI (p + k))) F (nI_add _ _) dX3_isOneOf_39 ?_
                            refine lv_aload_n F.x F.cd dX3_isOneOf_40 rfl (lv_at hl 0 rfl) ?_
                            refine s_get F hW (ci := 7) (C := RX3) (T := TX3) (N := 18) (v := .int (nI n)) (t0_1) rfl in_X3 10 (by decide) q2289 (fun _ h9 => h9) rfl dX3_isOneOf_41 ?_
                            refine n_icmp_ge (a := p + k) (b := n) (tgt := 76) F (by omega) (by omega) dX3_isOneOf_44 (by decide) (fun c_44 => ?_) (fun c_44 => ?_)
                            · have h9f : ¬ (p + k < n ∧ ar 6 (p + k) = WL.getD (31 + k) 0) := fun h9 => absurd h9.1 (by omega)
                              rw [cpl_f h9f] at hfd
                              have hl : lv_has ls 6 [(0, .ref m), (1, .ref a), (2, .int (nI (max (max (max (max (max 0 (cpw (ar 6) n p 0)) (cpw (ar 6) n p 1)) (cpw (ar 6) n p 2)) (cpw (ar 6) n p 3)) (cpw (ar 6) n p 4)))), (3, .int (nI 31)), (4, .int (nI 36)), (5, .int (nI (cpw (ar 6) n p 5)))] := by rw [← hfd]; exact hl
                              exact kont5 H locs ls hW (lv_sub hl [0, 1, 2, 3, 4, 5] rfl)
                            · have hTp := hT (p + k) (by omega)
                              have hWp := bts_lt hL (31 + k)
                              refine lv_aload_n F.x F.cd dX3_isOneOf_47 rfl (lv_at hl 0 rfl) ?_
                              refine s_get F hW (ci := 7) (C := RX3) (T := TX3) (N := 18) (v := .ref (A 6)) (t0_1) rfl in_X3 9 (by decide) q2288 (fun _ h9 => h9) rfl dX3_isOneOf_48 ?_
                              refine lv_aload_n F.x F.cd dX3_isOneOf_51 rfl (lv_at hl 0 rfl) ?_
                              refine s_get F hW (ci := 7) (C := RX3) (T := TX3) (N := 18) (v := .int (nI p)) (t0_1) rfl in_X3 11 (by decide) q2290 (fun _ h9 => h9) rfl dX3_isOneOf_52 ?_
                              refine lv_iload F.x F.cd dX3_isOneOf_55 (lv_at hl 5 rfl) ?_
                              refine a_iadd (v := (nI (p + k))) F (nI_add _ _) dX3_isOneOf_57 ?_
                              refine n_cald (i := p + k) (n := 60) (f := (fun x9 => nI ((ar 6) x9))) (x := (nI ((ar 6) (p + k)))) F hW (ta6_1) (by omega) (by omega) (rfl) dX3_isOneOf_58 ?_
                              refine lv_aload_n F.x F.cd dX3_isOneOf_59 rfl (lv_at hl 1 rfl) ?_
                              refine lv_iload_n F.x F.cd dX3_isOneOf_60 rfl (lv_at hl 3 rfl) ?_
                              refine lv_iload F.x F.cd dX3_isOneOf_61 (lv_at hl 5 rfl) ?_
                              refine a_iadd (v := (nI (31 + k))) F (nI_add _ _) dX3_isOneOf_63 ?_
                              refine s_callV (As := [.int (nI (31 + k))]) (rest := [.int (nI ((ar 6) (p + k)))]) (C := RJ7) (T := TJ7) (N := 4) (n := 1) F hW (k_J7_charAt g l σ a WL (31 + k) hs (by omega) (by omega)) (e0) rfl q2742 q1893 q1894 q77 q1895 rfl (by decide +kernel) rfl ⟨⟨Nat.le_of_ble_eq_true rfl, Nat.le_of_ble_eq_true rfl⟩, ⟨(Nat.le_of_ble_eq_true rfl), (Nat.le_of_ble_eq_true rfl)⟩⟩ (Nat.le_of_ble_eq_true rfl) hl.1 rfl dX3_isOneOf_64 cX_no (fun r113 σ113 H locs hp113 hW => ?_)
                              obtain ⟨rfl, hs113⟩ := hp113
                              rw [hs113] at hW
                              refine W.eq (g2 := F0 m_ 67 ls (.int (nI (WL.getD (31 + k) 0)) :: .int (nI ((ar 6) (p + k))) :: [])) rfl ?_
                              refine n_icmp_ne (a := (ar 6) (p + k)) (b := WL.getD (31 + k) 0) (tgt := 76) F (by omega) (by omega) dX3_isOneOf_67 (by decide) (fun c_67 => ?_) (fun c_67 => ?_)
                              · have h9f : ¬ (p + k < n ∧ ar 6 (p + k) = WL.getD (31 + k) 0) := fun h9 => c_67 h9.2
                                rw [cpl_f h9f] at hfd
                                have hl : lv_has ls 6 [(0, .ref m), (1, .ref a), (2, .int (nI (max (max (max (max (max 0 (cpw (ar 6) n p 0)) (cpw (ar 6) n p 1)) (cpw (ar 6) n p 2)) (cpw (ar 6) n p 3)) (cpw (ar 6) n p 4)))), (3, .int (nI 31)), (4, .int (nI 36)), (5, .int (nI (cpw (ar 6) n p 5)))] := by rw [← hfd]; exact hl
                                exact kont5 H locs ls hW (lv_sub hl [0, 1, 2, 3, 4, 5] rfl)
                              · have h9t : p + k < n ∧ ar 6 (p + k) = WL.getD (31 + k) 0 := ⟨by omega, c_67⟩
                                refine lv_iinc (k := 5) (v := (nI (k + 1))) (lv' := [(5, .int (nI (k + 1))), (0, .ref m), (1, .ref a), (2, .int (nI (max (max (max (max (max 0 (cpw (ar 6) n p 0)) (cpw (ar 6) n p 1)) (cpw (ar 6) n p 2)) (cpw (ar 6) n p 3)) (cpw (ar 6) n p 4)))), (3, .int (nI 31)), (4, .int (nI 36))]) F.x F.cd dX3_isOneOf_70 hl rfl (inc_nI k 1) (by decide) rfl (fun ls hl => ?_)
                                refine lv_goto (tgt := 24) F.x F.cd dX3_isOneOf_73 (by decide) ?_
                                exact ih24 (k + 1) (by omega) (by rw [cpl_t h9t] at hfd; exact hfd) (by omega) H locs ls hW (lv_sub hl [1, 2, 3, 4, 5, 0] rfl)
                      exact loop24 (5) 0 (by omega) (rfl) (by omega) H locs ls hW (lv_sub hl [4, 5, 3, 2, 1, 0] rfl)
                    · refine lv_aload_n F.x F.cd dX3_isOneOf_85 rfl (lv_at hl 0 rfl) ?_
                      refine lv_aload_n F.x F.cd dX3_isOneOf_86 rfl (lv_at hl 1 rfl) ?_
                      refine lv_iload_n F.x F.cd dX3_isOneOf_87 rfl (lv_at hl 3 rfl) ?_
                      refine lv_iload F.x F.cd dX3_isOneOf_88 (lv_at hl 4 rfl) ?_
                      refine s_callV (As := [.int (nI 24), .int (nI 30)]) (rest := [.ref m]) (C := RJ7) (T := TJ7) (N := 4) (n := 2) F hW (k_J7_substring g l σ a WL 24 30 hs (by decide) (by decide) (by decide) (by decide) (by decide)) (e0) rfl q2743 q2744 q2745 q77 q2746 rfl (by decide +kernel) rfl ⟨⟨Nat.le_of_ble_eq_true rfl, Nat.le_of_ble_eq_true rfl⟩, ⟨(Nat.le_of_ble_eq_true rfl), (Nat.le_of_ble_eq_true rfl)⟩⟩ (Nat.le_of_ble_eq_true rfl) hl.1 rfl dX3_isOneOf_90 cX_no (fun r114 σ114 H locs hp114 hW => ?_)
                      obtain ⟨a_114, rfl, hba114, hna114, hst114, hxt114⟩ := hp114
                      refine W.eq (g2 := F0 m_ 93 ls (.ref a_114 :: .ref m :: [])) rfl ?_
                      have tx_115 := IsTw.ext tw_1 hxt114
                      have fx_115 : Fm σ σ114 m A := Fm.ext Fm.refl hxt114
                      obtain ⟨t0_115, -, ta0_115, ta1_115, ta2_115, ta3_115, ta4_115, ta5_115, ta6_115, ta7_115, -, -⟩ := id tx_115
                      refine s_put F hW (ci := 7) (C := RX3) (T := TX3) (N := 18) (v := .ref a_114) (ty := (.object "java/lang/String")) (t0_115) (tb0) rfl in_X3 tyX3_ok nmX3 12 (by decide) q2291 (fun _ h9 => h9) rfl (by decide +kernel) rfl rfl (Nat.le_of_ble_eq_true rfl) dX3_isOneOf_93 (fun H locs hW => ?_)
                      obtain ⟨σ117, hσ117⟩ : ∃ z, z = sset σ114 m (.inr (7, [.ref (A 0), .ref (A 1), .ref (A 2), .int (iv 3), .ref (A 3), .int (iv 5), .ref (A 4), .ref (A 5), .int (iv 8), .ref (A 6), .int (nI n), .int (nI p), .ref a_114, .ref (A 7), .int (iv 14), .int (iv 15), .int (iv 16), .int (iv 17)])) := ⟨_, rfl⟩
                      have hW : Hl g σ117 H locs := by rw [hσ117]; exact hW
                      have w117 : σ117 m = some (.inr (7, [.ref (A 0), .ref (A 1), .ref (A 2), .int (iv 3), .ref (A 3), .int (iv 5), .ref (A 4), .ref (A 5), .int (iv 8), .ref (A 6), .int (nI n), .int (nI p), .ref a_114, .ref (A 7), .int (iv 14), .int (iv 15), .int (iv 16), .int (iv 17)])) := by rw [hσ117]; exact sset_eq
                      have f118 : σ117 (A 0) = some (eI g 0 114 (fun x9 => nI ((ar 0) x9))) := by rw [hσ117, sset_ne (sto_ne t0_115 ta0_115 (by simp))]; exact ta0_115
                      have f119 : σ117 (A 1) = some (eI g 0 114 (fun x9 => nI ((ar 1) x9))) := by rw [hσ117, sset_ne (sto_ne t0_115 ta1_115 (by simp))]; exact ta1_115
                      have f120 : σ117 (A 2) = some (eI g 0 912 (fun x9 => nI ((ar 2) x9))) := by rw [hσ117, sset_ne (sto_ne t0_115 ta2_115 (by simp))]; exact ta2_115
                      have f121 : σ117 (A 3) = some (eI g 0 114 (fun x9 => nI ((ar 3) x9))) := by rw [hσ117, sset_ne (sto_ne t0_115 ta3_115 (by simp))]; exact ta3_115
                      have f122 : σ117 (A 4) = some (eI g 2 2048 (fun x9 => bI (rb x9))) := by rw [hσ117, sset_ne (sto_ne t0_115 ta4_115 (by simp))]; exact ta4_115
                      have f123 : σ117 (A 5) = some (eI g 3 60 (fun x9 => nI ((ar 5) x9))) := by rw [hσ117, sset_ne (sto_ne t0_115 ta5_115 (by simp))]; exact ta5_115
                      have f124 : σ117 (A 6) = some (eI g 3 60 (fun x9 => nI ((ar 6) x9))) := by rw [hσ117, sset_ne (sto_ne t0_115 ta6_115 (by simp))]; exact ta6_115
                      have f125 : σ117 (A 7) = some (eI g 0 3 (fun x9 => nI ((ar 7) x9))) := by rw [hσ117, sset_ne (sto_ne t0_115 ta7_115 (by simp))]; exact ta7_115
                      have hst_126 : IsStr g σ117 a_114 (kwL 4) := by rw [hσ117]; exact IsStr.setO hst114 t0_115 (by decide)
                      refine lv_aload_n F.x F.cd dX3_isOneOf_96 rfl (lv_at hl 0 rfl) ?_
                      refine lv_dup F.x F.cd dX3_isOneOf_97 rfl ?_
                      refine s_get F hW (ci := 7) (C := RX3) (T := TX3) (N := 18) (v := .int (nI p)) (w117) rfl in_X3 11 (by decide) q2290 (fun _ h9 => h9) rfl dX3_isOneOf_98 ?_
                      refine lv_iload F.x F.cd dX3_isOneOf_101 (lv_at hl 5 rfl) ?_
                      refine a_iadd (v := (nI (p + (cpw (ar 6) n p 4)))) F (nI_add _ _) dX3_isOneOf_103 ?_
                      refine s_put F hW (ci := 7) (C := RX3) (T := TX3) (N := 18) (v := .int (nI (p + (cpw (ar 6) n p 4)))) (ty := .int) (w117) (tb0) rfl in_X3 tyX3_ok nmX3 11 (by decide) q2290 (fun _ h9 => h9) rfl (by decide +kernel) rfl rfl (Nat.le_of_ble_eq_true rfl) dX3_isOneOf_104 (fun H locs hW => ?_)
                      obtain ⟨σ128, hσ128⟩ : ∃ z, z = sset σ117 m (.inr (7, [.ref (A 0), .ref (A 1), .ref (A 2), .int (iv 3), .ref (A 3), .int (iv 5), .ref (A 4), .ref (A 5), .int (iv 8), .ref (A 6), .int (nI n), .int (nI (p + (cpw (ar 6) n p 4))), .ref a_114, .ref (A 7), .int (iv 14), .int (iv 15), .int (iv 16), .int (iv 17)])) := ⟨_, rfl⟩
                      have hW : Hl g σ128 H locs := by rw [hσ128]; exact hW
                      have w128 : σ128 m = some (.inr (7, [.ref (A 0), .ref (A 1), .ref (A 2), .int (iv 3), .ref (A 3), .int (iv 5), .ref (A 4), .ref (A 5), .int (iv 8), .ref (A 6), .int (nI n), .int (nI (p + (cpw (ar 6) n p 4))), .ref a_114, .ref (A 7), .int (iv 14), .int (iv 15), .int (iv 16), .int (iv 17)])) := by rw [hσ128]; exact sset_eq
                      have f129 : σ128 (A 0) = some (eI g 0 114 (fun x9 => nI ((ar 0) x9))) := by rw [hσ128, sset_ne (sto_ne w117 f118 (by simp))]; exact f118
                      have f130 : σ128 (A 1) = some (eI g 0 114 (fun x9 => nI ((ar 1) x9))) := by rw [hσ128, sset_ne (sto_ne w117 f119 (by simp))]; exact f119
                      have f131 : σ128 (A 2) = some (eI g 0 912 (fun x9 => nI ((ar 2) x9))) := by rw [hσ128, sset_ne (sto_ne w117 f120 (by simp))]; exact f120
                      have f132 : σ128 (A 3) = some (eI g 0 114 (fun x9 => nI ((ar 3) x9))) := by rw [hσ128, sset_ne (sto_ne w117 f121 (by simp))]; exact f121
                      have f133 : σ128 (A 4) = some (eI g 2 2048 (fun x9 => bI (rb x9))) := by rw [hσ128, sset_ne (sto_ne w117 f122 (by simp))]; exact f122
                      have f134 : σ128 (A 5) = some (eI g 3 60 (fun x9 => nI ((ar 5) x9))) := by rw [hσ128, sset_ne (sto_ne w117 f123 (by simp))]; exact f123
                      have f135 : σ128 (A 6) = some (eI g 3 60 (fun x9 => nI ((ar 6) x9))) := by rw [hσ128, sset_ne (sto_ne w117 f124 (by simp))]; exact f124
                      have f136 : σ128 (A 7) = some (eI g 0 3 (fun x9 => nI ((ar 7) x9))) := by rw [hσ128, sset_ne (sto_ne w117 f125 (by simp))]; exact f125
                      have hst_137 : IsStr g σ128 a_114 (kwL 4) := by rw [hσ128]; exact IsStr.setO hst_126 w117 (by decide)
                      have tw138 : IsTw g σ128 m A (va_up (va_up iv 10 (nI n)) 11 (nI (p + (cpw (ar 6) n p 4)))) a_114 ar rb := ⟨w128, tb0, f129, f130, f131, f132, f133, f134, f135, f136, tbb, tii⟩
                      have fm138 : Fm σ σ128 m A := by rw [hσ128, hσ117]; exact ((fx_115).setM).setM
                      have tw_139 : IsTw g σ128 m A (va_up (va_up iv 10 (nI n)) 11 (nI (p + 6))) a_114 ar rb := by
                        rw [show p + 6 = p + cpw (ar 6) n p 4 by rw [c_82]]
                        exact ⟨w128, tb0, f129, f130, f131, f132, f133, f134, f135, f136, tbb, tii⟩
                      obtain ⟨t0_139, -, ta0_139, ta1_139, ta2_139, ta3_139, ta4_139, ta5_139, ta6_139, ta7_139, -, -⟩ := id tw_139
                      refine lv_iconst (v := (nI 1)) F.x F.cd dX3_isOneOf_107 (by decide) ?_
                      subst hQ
                      exact s_reti (v := (nI 1)) F hW (by decide) (Or.inl ⟨4, by decide, hall4, c_82, rfl, a_114, by assumption, hst_137, tw_139, fm138⟩) ⟨(Nat.le_of_ble_eq_true rfl), (Nat.le_of_ble_eq_true rfl)⟩ dX3_isOneOf_108
                  have loop24 : ∀ (nk : Nat) (k : Nat), k + nk = 6 → (cpl (ar 6) n p 24 k nk = cpw (ar 6) n p 4) → p + k ≤ n → ∀ (H : Heap) (locs : List Loc) (ls : Array Slot), Hl g σ H locs → lv_has ls 6 [(0, .ref m), (1, .ref a), (2, .int (nI (max (max (max (max 0 (cpw (ar 6) n p 0)) (cpw (ar 6) n p 1)) (cpw (ar 6) n p 2)) (cpw (ar 6) n p 3)))), (3, .int (nI 24)), (4, .int (nI 30)), (5, .int (nI k))] → W p_ l e_ ({ frames := 5, cells := 2, slots := 132, locals := 152 } : Room) s_ m_ args_ below_ meth_ c_ H locs 0 0 Q (F0 m_ 24 ls ([])) := by
                    intro nk
                    induction nk with
                    | zero =>
                      intro k hknk hfd hpk H locs ls hW hl
                      refine lv_iload F.x F.cd dX3_isOneOf_24 (lv_at hl 5 rfl) ?_
                      refine lv_iload F.x F.cd dX3_isOneOf_26 (lv_at hl 4 rfl) ?_
                      refine lv_iload_n F.x F.cd dX3_isOneOf_28 rfl (lv_at hl 3 rfl) ?_
                      refine a_isub (v := (nI 6)) F (by decide) dX3_isOneOf_29 ?_
                      refine n_icmp_ge (a := k) (b := 6) (tgt := 76) F (by omega) (by omega) dX3_isOneOf_30 (by decide) (fun c_30 => ?_) (fun c_30 => ?_)
                      · rw [cpl] at hfd
                        have hl : lv_has ls 6 [(0, .ref m), (1, .ref a), (2, .int (nI (max (max (max (max 0 (cpw (ar 6) n p 0)) (cpw (ar 6) n p 1)) (cpw (ar 6) n p 2)) (cpw (ar 6) n p 3)))), (3, .int (nI 24)), (4, .int (nI 30)), (5, .int (nI (cpw (ar 6) n p 4)))] := by rw [← hfd]; exact hl
                        exact kont4 H locs ls hW (lv_sub hl [0, 1, 2, 3, 4, 5] rfl)
                      · exact absurd c_30 (by omega)
                    | succ nk ih24 =>
                      intro k hknk hfd hpk H locs ls hW hl
                      refine lv_iload F.x F.cd dX3_isOneOf_24 (lv_at hl 5 rfl) ?_
                      refine lv_iload F.x F.cd dX3_isOneOf_26 (lv_at hl 4 rfl) ?_
                      refine lv_iload_n F.x F.cd dX3_isOneOf_28 rfl (lv_at hl 3 rfl) ?_
                      refine a_isub (v := (nI 6)) F (by decide) dX3_isOneOf_29 ?_
                      refine n_icmp_ge (a := k) (b := 6) (tgt := 76) F (by omega) (by omega) dX3_isOneOf_30 (by decide) (fun c_30 => ?_) (fun c_30 => ?_)
                      · exact absurd c_30 (by omega)
                      · refine lv_aload_n F.x F.cd dX3_isOneOf_33 rfl (lv_at hl 0 rfl) ?_
                        refine s_get F hW (ci := 7) (C := RX3) (T := TX3) (N := 18) (v := .int (nI p)) (t0_1) rfl in_X3 11 (by decide) q2290 (fun _ h9 => h9) rfl dX3_isOneOf_34 ?_
                        refine lv_iload F.x F.cd dX3_isOneOf_37 (lv_at hl 5 rfl) ?_
                        refine a_iadd (v := (nI (p + k))) F (nI_add _ _) dX3_isOneOf_39 ?_
                        refine lv_aload_n F.x F.cd dX3_isOneOf_40 rfl (lv_at hl 0 rfl) ?_
                        refine s_get F hW (ci := 7) (C := RX3) (T := TX3) (N := 18) (v := .int (nI n)) (t0_1) rfl in_X3 10 (by decide) q2289 (fun _ h9 => h9) rfl dX3_isOneOf_41 ?_
                        refine n_icmp_ge (a := p + k) (b := n) (tgt := 76) F (by omega) (by omega) dX3_isOneOf_44 (by decide) (fun c_44 => ?_) (fun c_44 => ?_)
                        · have h9f : ¬ (p + k < n ∧ ar 6 (p + k) = WL.getD (24 + k) 0) := fun h9 => absurd h9.1 (by omega)
                          rw [cpl_f h9f] at hfd
                          have hl : lv_has ls 6 [(0, .ref m), (1, .ref a), (2, .int (nI (max (max (max (max 0 (cpw (ar 6) n p 0)) (cpw (ar 6) n p 1)) (cpw (ar 6) n p 2)) (cpw (ar 6) n p 3)))), (3, .int (nI 24)), (4, .int (nI 30)), (5, .int (nI (cpw (ar 6) n p 4)))] := by rw [← hfd]; exact hl
                          exact kont4 H locs ls hW (lv_sub hl [0, 1, 2, 3, 4, 5] rfl)
                        · have hTp := hT (p + k) (by omega)
                          have hWp := bts_lt hL (24 + k)
                          refine lv_aload_n F.x F.cd dX3_isOneOf_47 rfl (lv_at hl 0 rfl) ?_
                          refine s_get F hW (ci := 7) (C := RX3) (T := TX3) (N := 18) (v := .ref (A 6)) (t0_1) rfl in_X3 9 (by decide) q2288 (fun _ h9 => h9) rfl dX3_isOneOf_48 ?_
                          refine lv_aload_n F.x F.cd dX3_isOneOf_51 rfl (lv_at hl 0 rfl) ?_
                          refine s_get F hW (ci := 7) (C := RX3) (T := TX3) (N := 18) (v := .int (nI p)) (t0_1) rfl in_X3 11 (by decide) q2290 (fun _ h9 => h9) rfl dX3_isOneOf_52 ?_
                          refine lv_iload F.x F.cd dX3_isOneOf_55 (lv_at hl 5 rfl) ?_
                          refine a_iadd (v := (nI (p + k))) F (nI_add _ _) dX3_isOneOf_57 ?_
                          refine n_cald (i := p + k) (n := 60) (f := (fun x9 => nI ((ar 6) x9))) (x := (nI ((ar 6) (p + k)))) F hW (ta6_1) (by omega) (by omega) (rfl) dX3_isOneOf_58 ?_
                          refine lv_aload_n F.x F.cd dX3_isOneOf_59 rfl (lv_at hl 1 rfl) ?_
                          refine lv_iload_n F.x F.cd dX3_isOneOf_60 rfl (lv_at hl 3 rfl) ?_
                          refine lv_iload F.x F.cd dX3_isOneOf_61 (lv_at hl 5 rfl) ?_
                          refine a_iadd (v := (nI (24 + k))) F (nI_add _ _) dX3_isOneOf_63 ?_
                          refine s_callV (As := [.int (nI (24 + k))]) (rest := [.int (nI ((ar 6) (p + k)))]) (C := RJ7) (T := TJ7) (N := 4) (n := 1) F hW (k_J7_charAt g l σ a WL (24 + k) hs (by omega) (by omega)) (e0) rfl q2742 q1893 q1894 q77 q1895 rfl (by decide +kernel) rfl ⟨⟨Nat.le_of_ble_eq_true rfl, Nat.le_of_ble_eq_true rfl⟩, ⟨(Nat.le_of_ble_eq_true rfl), (Nat.le_of_ble_eq_true rfl)⟩⟩ (Nat.le_of_ble_eq_true rfl) hl.1 rfl dX3_isOneOf_64 cX_no (fun r140 σ140 H locs hp140 hW => ?_)
                          obtain ⟨rfl, hs140⟩ := hp140
                          rw [hs140] at hW
                          refine W.eq (g2 := F0 m_ 67 ls (.int (nI (WL.getD (24 + k) 0)) :: .int (nI ((ar 6) (p + k))) :: [])) rfl ?_
                          refine n_icmp_ne (a := (ar 6) (p + k)) (b := WL.getD (24 + k) 0) (tgt := 76) F (by omega) (by omega) dX3_isOneOf_67 (by decide) (fun c_67 => ?_) (fun c_67 => ?_)
                          · have h9f : ¬ (p + k < n ∧ ar 6 (p + k) = WL.getD (24 + k) 0) := fun h9 => c_67 h9.2
                            rw [cpl_f h9f] at hfd
                            have hl : lv_has ls 6 [(0, .ref m), (1, .ref a), (2, .int (nI (max (max (max (max 0 (cpw (ar 6) n p 0)) (cpw (ar 6) n p 1)) (cpw (ar 6) n p 2)) (cpw (ar 6) n p 3)))), (3, .int (nI 24)), (4, .int (nI 30)), (5, .int (nI (cpw (ar 6) n p 4)))] := by rw [← hfd]; exact hl
                            exact kont4 H locs ls hW (lv_sub hl [0, 1, 2, 3, 4, 5] rfl)
                          · have h9t : p + k < n ∧ ar 6 (p + k) = WL.getD (24 + k) 0 := ⟨by omega, c_67⟩
                            refine lv_iinc (k := 5) (v := (nI (k + 1))) (lv' := [(5, .int (nI (k + 1))), (0, .ref m), (1, .ref a), (2, .int (nI (max (max (max (max 0 (cpw (ar 6) n p 0)) (cpw (ar 6) n p 1)) (cpw (ar 6) n p 2)) (cpw (ar 6) n p 3)))), (3, .int (nI 24)), (4, .int (nI 30))]) F.x F.cd dX3_isOneOf_70 hl rfl (inc_nI k 1) (by decide) rfl (fun ls hl => ?_)
                            refine lv_goto (tgt := 24) F.x F.cd dX3_isOneOf_73 (by decide) ?_
                            exact ih24 (k + 1) (by omega) (by rw [cpl_t h9t] at hfd; exact hfd) (by omega) H locs ls hW (lv_sub hl [1, 2, 3, 4, 5, 0] rfl)
                  exact loop24 (6) 0 (by omega) (rfl) (by omega) H locs ls hW (lv_sub hl [4, 5, 3, 2, 1, 0] rfl)
                · refine lv_aload_n F.x F.cd dX3_isOneOf_85 rfl (lv_at hl 0 rfl) ?_
                  refine lv_aload_n F.x F.cd dX3_isOneOf_86 rfl (lv_at hl 1 rfl) ?_
                  refine lv_iload_n F.x F.cd dX3_isOneOf_87 rfl (lv_at hl 3 rfl) ?_
                  refine lv_iload F.x F.cd dX3_isOneOf_88 (lv_at hl 4 rfl) ?_
                  refine s_callV (As := [.int (nI 18), .int (nI 23)]) (rest := [.ref m]) (C := RJ7) (T := TJ7) (N := 4) (n := 2) F hW (k_J7_substring g l σ a WL 18 23 hs (by decide) (by decide) (by decide) (by decide) (by decide)) (e0) rfl q2743 q2744 q2745 q77 q2746 rfl (by decide +kernel) rfl ⟨⟨Nat.le_of_ble_eq_true rfl, Nat.le_of_ble_eq_true rfl⟩, ⟨(Nat.le_of_ble_eq_true rfl), (Nat.le_of_ble_eq_true rfl)⟩⟩ (Nat.le_of_ble_eq_true rfl) hl.1 rfl dX3_isOneOf_90 cX_no (fun r141 σ141 H locs hp141 hW => ?_)
                  obtain ⟨a_141, rfl, hba141, hna141, hst141, hxt141⟩ := hp141
                  refine W.eq (g2 := F0 m_ 93 ls (.ref a_141 :: .ref m :: [])) rfl ?_
                  have tx_142 := IsTw.ext tw_1 hxt141
                  have fx_142 : Fm σ σ141 m A := Fm.ext Fm.refl hxt141
                  obtain ⟨t0_142, -, ta0_142, ta1_142, ta2_142, ta3_142, ta4_142, ta5_142, ta6_142, ta7_142, -, -⟩ := id tx_142
                  refine s_put F hW (ci := 7) (C := RX3) (T := TX3) (N := 18) (v := .ref a_141) (ty := (.object "java/lang/String")) (t0_142) (tb0) rfl in_X3 tyX3_ok nmX3 12 (by decide) q2291 (fun _ h9 => h9) rfl (by decide +kernel) rfl rfl (Nat.le_of_ble_eq_true rfl) dX3_isOneOf_93 (fun H locs hW => ?_)
                  obtain ⟨σ144, hσ144⟩ : ∃ z, z = sset σ141 m (.inr (7, [.ref (A 0), .ref (A 1), .ref (A 2), .int (iv 3), .ref (A 3), .int (iv 5), .ref (A 4), .ref (A 5), .int (iv 8), .ref (A 6), .int (nI n), .int (nI p), .ref a_141, .ref (A 7), .int (iv 14), .int (iv 15), .int (iv 16), .int (iv 17)])) := ⟨_, rfl⟩
                  have hW : Hl g σ144 H locs := by rw [hσ144]; exact hW
                  have w144 : σ144 m = some (.inr (7, [.ref (A 0), .ref (A 1), .ref (A 2), .int (iv 3), .ref (A 3), .int (iv 5), .ref (A 4), .ref (A 5), .int (iv 8), .ref (A 6), .int (nI n), .int (nI p), .ref a_141, .ref (A 7), .int (iv 14), .int (iv 15), .int (iv 16), .int (iv 17)])) := by rw [hσ144]; exact sset_eq
                  have f145 : σ144 (A 0) = some (eI g 0 114 (fun x9 => nI ((ar 0) x9))) := by rw [hσ144, sset_ne (sto_ne t0_142 ta0_142 (by simp))]; exact ta0_142
                  have f146 : σ144 (A 1) = some (eI g 0 114 (fun x9 => nI ((ar 1) x9))) := by rw [hσ144, sset_ne (sto_ne t0_142 ta1_142 (by simp))]; exact ta1_142
                  have f147 : σ144 (A 2) = some (eI g 0 912 (fun x9 => nI ((ar 2) x9))) := by rw [hσ144, sset_ne (sto_ne t0_142 ta2_142 (by simp))]; exact ta2_142
                  have f148 : σ144 (A 3) = some (eI g 0 114 (fun x9 => nI ((ar 3) x9))) := by rw [hσ144, sset_ne (sto_ne t0_142 ta3_142 (by simp))]; exact ta3_142
                  have f149 : σ144 (A 4) = some (eI g 2 2048 (fun x9 => bI (rb x9))) := by rw [hσ144, sset_ne (sto_ne t0_142 ta4_142 (by simp))]; exact ta4_142
                  have f150 : σ144 (A 5) = some (eI g 3 60 (fun x9 => nI ((ar 5) x9))) := by rw [hσ144, sset_ne (sto_ne t0_142 ta5_142 (by simp))]; exact ta5_142
                  have f151 : σ144 (A 6) = some (eI g 3 60 (fun x9 => nI ((ar 6) x9))) := by rw [hσ144, sset_ne (sto_ne t0_142 ta6_142 (by simp))]; exact ta6_142
                  have f152 : σ144 (A 7) = some (eI g 0 3 (fun x9 => nI ((ar 7) x9))) := by rw [hσ144, sset_ne (sto_ne t0_142 ta7_142 (by simp))]; exact ta7_142
                  have hst_153 : IsStr g σ144 a_141 (kwL 3) := by rw [hσ144]; exact IsStr.setO hst141 t0_142 (by decide)
                  refine lv_aload_n F.x F.cd dX3_isOneOf_96 rfl (lv_at hl 0 rfl) ?_
                  refine lv_dup F.x F.cd dX3_isOneOf_97 rfl ?_
                  refine s_get F hW (ci := 7) (C := RX3) (T := TX3) (N := 18) (v := .int (nI p)) (w144) rfl in_X3 11 (by decide) q2290 (fun _ h9 => h9) rfl dX3_isOneOf_98 ?_
                  refine lv_iload F.x F.cd dX3_isOneOf_101 (lv_at hl 5 rfl) ?_
                  refine a_iadd (v := (nI (p + (cpw (ar 6) n p 3)))) F (nI_add _ _) dX3_isOneOf_103 ?_
                  refine s_put F hW (ci := 7) (C := RX3) (T := TX3) (N := 18) (v := .int (nI (p + (cpw (ar 6) n p 3)))) (ty := .int) (w144) (tb0) rfl in_X3 tyX3_ok nmX3 11 (by decide) q2290 (fun _ h9 => h9) rfl (by decide +kernel) rfl rfl (Nat.le_of_ble_eq_true rfl) dX3_isOneOf_104 (fun H locs hW => ?_)
                  obtain ⟨σ155, hσ155⟩ : ∃ z, z = sset σ144 m (.inr (7, [.ref (A 0), .ref (A 1), .ref (A 2), .int (iv 3), .ref (A 3), .int (iv 5), .ref (A 4), .ref (A 5), .int (iv 8), .ref (A 6), .int (nI n), .int (nI (p + (cpw (ar 6) n p 3))), .ref a_141, .ref (A 7), .int (iv 14), .int (iv 15), .int (iv 16), .int (iv 17)])) := ⟨_, rfl⟩
                  have hW : Hl g σ155 H locs := by rw [hσ155]; exact hW
                  have w155 : σ155 m = some (.inr (7, [.ref (A 0), .ref (A 1), .ref (A 2), .int (iv 3), .ref (A 3), .int (iv 5), .ref (A 4), .ref (A 5), .int (iv 8), .ref (A 6), .int (nI n), .int (nI (p + (cpw (ar 6) n p 3))), .ref a_141, .ref (A 7), .int (iv 14), .int (iv 15), .int (iv 16), .int (iv 17)])) := by rw [hσ155]; exact sset_eq
                  have f156 : σ155 (A 0) = some (eI g 0 114 (fun x9 => nI ((ar 0) x9))) := by rw [hσ155, sset_ne (sto_ne w144 f145 (by simp))]; exact f145
                  have f157 : σ155 (A 1) = some (eI g 0 114 (fun x9 => nI ((ar 1) x9))) := by rw [hσ155, sset_ne (sto_ne w144 f146 (by simp))]; exact f146
                  have f158 : σ155 (A 2) = some (eI g 0 912 (fun x9 => nI ((ar 2) x9))) := by rw [hσ155, sset_ne (sto_ne w144 f147 (by simp))]; exact f147
                  have f159 : σ155 (A 3) = some (eI g 0 114 (fun x9 => nI ((ar 3) x9))) := by rw [hσ155, sset_ne (sto_ne w144 f148 (by simp))]; exact f148
                  have f160 : σ155 (A 4) = some (eI g 2 2048 (fun x9 => bI (rb x9))) := by rw [hσ155, sset_ne (sto_ne w144 f149 (by simp))]; exact f149
                  have f161 : σ155 (A 5) = some (eI g 3 60 (fun x9 => nI ((ar 5) x9))) := by rw [hσ155, sset_ne (sto_ne w144 f150 (by simp))]; exact f150
                  have f162 : σ155 (A 6) = some (eI g 3 60 (fun x9 => nI ((ar 6) x9))) := by rw [hσ155, sset_ne (sto_ne w144 f151 (by simp))]; exact f151
                  have f163 : σ155 (A 7) = some (eI g 0 3 (fun x9 => nI ((ar 7) x9))) := by rw [hσ155, sset_ne (sto_ne w144 f152 (by simp))]; exact f152
                  have hst_164 : IsStr g σ155 a_141 (kwL 3) := by rw [hσ155]; exact IsStr.setO hst_153 w144 (by decide)
                  have tw165 : IsTw g σ155 m A (va_up (va_up iv 10 (nI n)) 11 (nI (p + (cpw (ar 6) n p 3)))) a_141 ar rb := ⟨w155, tb0, f156, f157, f158, f159, f160, f161, f162, f163, tbb, tii⟩
                  have fm165 : Fm σ σ155 m A := by rw [hσ155, hσ144]; exact ((fx_142).setM).setM
                  have tw_166 : IsTw g σ155 m A (va_up (va_up iv 10 (nI n)) 11 (nI (p + 5))) a_141 ar rb := by
                    rw [show p + 5 = p + cpw (ar 6) n p 3 by rw [c_82]]
                    exact ⟨w155, tb0, f156, f157, f158, f159, f160, f161, f162, f163, tbb, tii⟩
                  obtain ⟨t0_166, -, ta0_166, ta1_166, ta2_166, ta3_166, ta4_166, ta5_166, ta6_166, ta7_166, -, -⟩ := id tw_166
                  refine lv_iconst (v := (nI 1)) F.x F.cd dX3_isOneOf_107 (by decide) ?_
                  subst hQ
                  exact s_reti (v := (nI 1)) F hW (by decide) (Or.inl ⟨3, by decide, hall3, c_82, rfl, a_141, by assumption, hst_164, tw_166, fm165⟩) ⟨(Nat.le_of_ble_eq_true rfl), (Nat.le_of_ble_eq_true rfl)⟩ dX3_isOneOf_108
              have loop24 : ∀ (nk : Nat) (k : Nat), k + nk = 5 → (cpl (ar 6) n p 18 k nk = cpw (ar 6) n p 3) → p + k ≤ n → ∀ (H : Heap) (locs : List Loc) (ls : Array Slot), Hl g σ H locs → lv_has ls 6 [(0, .ref m), (1, .ref a), (2, .int (nI (max (max (max 0 (cpw (ar 6) n p 0)) (cpw (ar 6) n p 1)) (cpw (ar 6) n p 2)))), (3, .int (nI 18)), (4, .int (nI 23)), (5, .int (nI k))] → W p_ l e_ ({ frames := 5, cells := 2, slots := 132, locals := 152 } : Room) s_ m_ args_ below_ meth_ c_ H locs 0 0 Q (F0 m_ 24 ls ([])) := by
                intro nk
                induction nk with
                | zero =>
                  intro k hknk hfd hpk H locs ls hW hl
                  refine lv_iload F.x F.cd dX3_isOneOf_24 (lv_at hl 5 rfl) ?_
                  refine lv_iload F.x F.cd dX3_isOneOf_26 (lv_at hl 4 rfl) ?_
                  refine lv_iload_n F.x F.cd dX3_isOneOf_28 rfl (lv_at hl 3 rfl) ?_
                  refine a_isub (v := (nI 5)) F (by decide) dX3_isOneOf_29 ?_
                  refine n_icmp_ge (a := k) (b := 5) (tgt := 76) F (by omega) (by omega) dX3_isOneOf_30 (by decide) (fun c_30 => ?_) (fun c_30 => ?_)
                  · rw [cpl] at hfd
                    have hl : lv_has ls 6 [(0, .ref m), (1, .ref a), (2, .int (nI (max (max (max 0 (cpw (ar 6) n p 0)) (cpw (ar 6) n p 1)) (cpw (ar 6) n p 2)))), (3, .int (nI 18)), (4, .int (nI 23)), (5, .int (nI (cpw (ar 6) n p 3)))] := by rw [← hfd]; exact hl
                    exact kont3 H locs ls hW (lv_sub hl [0, 1, 2, 3, 4, 5] rfl)
                  · exact absurd c_30 (by omega)
                | succ nk ih24 =>
                  intro k hknk hfd hpk H locs ls hW hl
                  refine lv_iload F.x F.cd dX3_isOneOf_24 (lv_at hl 5 rfl) ?_
                  refine lv_iload F.x F.cd dX3_isOneOf_26 (lv_at hl 4 rfl) ?_
                  refine lv_iload_n F.x F.cd dX3_isOneOf_28 rfl (lv_at hl 3 rfl) ?_
                  refine a_isub (v := (nI 5)) F (by decide) dX3_isOneOf_29 ?_
                  refine n_icmp_ge (a := k) (b := 5) (tgt := 76) F (by omega) (by omega) dX3_isOneOf_30 (by decide) (fun c_30 => ?_) (fun c_30 => ?_)
                  · exact absurd c_30 (by omega)
                  · refine lv_aload_n F.x F.cd dX3_isOneOf_33 rfl (lv_at hl 0 rfl) ?_
                    refine s_get F hW (ci := 7) (C := RX3) (T := TX3) (N := 18) (v := .int (nI p)) (t0_1) rfl in_X3 11 (by decide) q2290 (fun _ h9 => h9) rfl dX3_isOneOf_34 ?_
                    refine lv_iload F.x F.cd dX3_isOneOf_37 (lv_at hl 5 rfl) ?_
                    refine a_iadd (v := (nI (p + k))) F (nI_add _ _) dX3_isOneOf_39 ?_
                    refine lv_aload_n F.x F.cd dX3_isOneOf_40 rfl (lv_at hl 0 rfl) ?_
                    refine s_get F hW (ci := 7) (C := RX3) (T := TX3) (N := 18) (v := .int (nI n)) (t0_1) rfl in_X3 10 (by decide) q2289 (fun _ h9 => h9) rfl dX3_isOneOf_41 ?_
                    refine n_icmp_ge (a := p + k) (b := n) (tgt := 76) F (by omega) (by omega) dX3_isOneOf_44 (by decide) (fun c_44 => ?_) (fun c_44 => ?_)
                    · have h9f : ¬ (p + k < n ∧ ar 6 (p + k) = WL.getD (18 + k) 0) := fun h9 => absurd h9.1 (by omega)
                      rw [cpl_f h9f] at hfd
                      have hl : lv_has ls 6 [(0, .ref m), (1, .ref a), (2, .int (nI (max (max (max 0 (cpw (ar 6) n p 0)) (cpw (ar 6) n p 1)) (cpw (ar 6) n p 2)))), (3, .int (nI 18)), (4, .int (nI 23)), (5, .int (nI (cpw (ar 6) n p 3)))] := by rw [← hfd]; exact hl
                      exact kont3 H locs ls hW (lv_sub hl [0, 1, 2, 3, 4, 5] rfl)
                    · have hTp := hT (p + k) (by omega)
                      have hWp := bts_lt hL (18 + k)
                      refine lv_aload_n F.x F.cd dX3_isOneOf_47 rfl (lv_at hl 0 rfl) ?_
                      refine s_get F hW (ci := 7) (C := RX3) (T := TX3) (N := 18) (v := .ref (A 6)) (t0_1) rfl in_X3 9 (by decide) q2288 (fun _ h9 => h9) rfl dX3_isOneOf_48 ?_
                      refine lv_aload_n F.x F.cd dX3_isOneOf_51 rfl (lv_at hl 0 rfl) ?_
                      refine s_get F hW (ci := 7) (C := RX3) (T := TX3) (N := 18) (v := .int (nI p)) (t0_1) rfl in_X3 11 (by decide) q2290 (fun _ h9 => h9) rfl dX3_isOneOf_52 ?_
                      refine lv_iload F.x F.cd dX3_isOneOf_55 (lv_at hl 5 rfl) ?_
                      refine a_iadd (v := (nI (p + k))) F (nI_add _ _) dX3_isOneOf_57 ?_
                      refine n_cald (i := p + k) (n := 60) (f := (fun x9 => nI ((ar 6) x9))) (x := (nI ((ar 6) (p + k)))) F hW (ta6_1) (by omega) (by omega) (rfl) dX3_isOneOf_58 ?_
                      refine lv_aload_n F.x F.cd dX3_isOneOf_59 rfl (lv_at hl 1 rfl) ?_
                      refine lv_iload_n F.x F.cd dX3_isOneOf_60 rfl (lv_at hl 3 rfl) ?_
                      refine lv_iload F.x F.cd dX3_isOneOf_61 (lv_at hl 5 rfl) ?_
                      refine a_iadd (v := (nI (18 + k))) F (nI_add _ _) dX3_isOneOf_63 ?_
                      refine s_callV (As := [.int (nI (18 + k))]) (rest := [.int (nI ((ar 6) (p + k)))]) (C := RJ7) (T := TJ7) (N := 4) (n := 1) F hW (k_J7_charAt g l σ a WL (18 + k) hs (by omega) (by omega)) (e0) rfl q2742 q1893 q1894 q77 q1895 rfl (by decide +kernel) rfl ⟨⟨Nat.le_of_ble_eq_true rfl, Nat.le_of_ble_eq_true rfl⟩, ⟨(Nat.le_of_ble_eq_true rfl), (Nat.le_of_ble_eq_true rfl)⟩⟩ (Nat.le_of_ble_eq_true rfl) hl.1 rfl dX3_isOneOf_64 cX_no (fun r167 σ167 H locs hp167 hW => ?_)
                      obtain ⟨rfl, hs167⟩ := hp167
                      rw [hs167] at hW
                      refine W.eq (g2 := F0 m_ 67 ls (.int (nI (WL.getD (18 + k) 0)) :: .int (nI ((ar 6) (p + k))) :: [])) rfl ?_
                      refine n_icmp_ne (a := (ar 6) (p + k)) (b := WL.getD (18 + k) 0) (tgt := 76) F (by omega) (by omega) dX3_isOneOf_67 (by decide) (fun c_67 => ?_) (fun c_67 => ?_)
                      · have h9f : ¬ (p + k < n ∧ ar 6 (p + k) = WL.getD (18 + k) 0) := fun h9 => c_67 h9.2
                        rw [cpl_f h9f] at hfd
                        have hl : lv_has ls 6 [(0, .ref m), (1, .ref a), (2, .int (nI (max (max (max 0 (cpw (ar 6) n p 0)) (cpw (ar 6) n p 1)) (cpw (ar 6) n p 2)))), (3, .int (nI 18)), (4, .int (nI 23)), (5, .int (nI (cpw (ar 6) n p 3)))] := by rw [← hfd]; exact hl
                        exact kont3 H locs ls hW (lv_sub hl [0, 1, 2, 3, 4, 5] rfl)
                      · have h9t : p + k < n ∧ ar 6 (p + k) = WL.getD (18 + k) 0 := ⟨by omega, c_67⟩
                        refine lv_iinc (k := 5) (v := (nI (k + 1))) (lv' := [(5, .int (nI (k + 1))), (0, .ref m), (1, .ref a), (2, .int (nI (max (max (max 0 (cpw (ar 6) n p 0)) (cpw (ar 6) n p 1)) (cpw (ar 6) n p 2)))), (3, .int (nI 18)), (4, .int (nI 23))]) F.x F.cd dX3_isOneOf_70 hl rfl (inc_nI k 1) (by decide) rfl (fun ls hl => ?_)
                        refine lv_goto (tgt := 24) F.x F.cd dX3_isOneOf_73 (by decide) ?_
                        exact ih24 (k + 1) (by omega) (by rw [cpl_t h9t] at hfd; exact hfd) (by omega) H locs ls hW (lv_sub hl [1, 2, 3, 4, 5, 0] rfl)
              exact loop24 (5) 0 (by omega) (rfl) (by omega) H locs ls hW (lv_sub hl [4, 5, 3, 2, 1, 0] rfl)
            · refine lv_aload_n F.x F.cd dX3_isOneOf_85 rfl (lv_at hl 0 rfl) ?_
              refine lv_aload_n F.x F.cd dX3_isOneOf_86 rfl (lv_at hl 1 rfl) ?_
              refine lv_iload_n F.x F.cd dX3_isOneOf_87 rfl (lv_at hl 3 rfl) ?_
              refine lv_iload F.x F.cd dX3_isOneOf_88 (lv_at hl 4 rfl) ?_
              refine s_callV (As := [.int (nI 12), .int (nI 17)]) (rest := [.ref m]) (C := RJ7) (T := TJ7) (N := 4) (n := 2) F hW (k_J7_substring g l σ a WL 12 17 hs (by decide) (by decide) (by decide) (by decide) (by decide)) (e0) rfl q2743 q2744 q2745 q77 q2746 rfl (by decide +kernel) rfl ⟨⟨Nat.le_of_ble_eq_true rfl, Nat.le_of_ble_eq_true rfl⟩, ⟨(Nat.le_of_ble_eq_true rfl), (Nat.le_of_ble_eq_true rfl)⟩⟩ (Nat.le_of_ble_eq_true rfl) hl.1 rfl dX3_isOneOf_90 cX_no (fun r168 σ168 H locs hp168 hW => ?_)
              obtain ⟨a_168, rfl, hba168, hna168, hst168, hxt168⟩ := hp168
              refine W.eq (g2 := F0 m_ 93 ls (.ref a_168 :: .ref m :: [])) rfl ?_
              have tx_169 := IsTw.ext tw_1 hxt168
              have fx_169 : Fm σ σ168 m A := Fm.ext Fm.refl hxt168
              obtain ⟨t0_169, -, ta0_169, ta1_169, ta2_169, ta3_169, ta4_169, ta5_169, ta6_169, ta7_169, -, -⟩ := id tx_169
              refine s_put F hW (ci := 7) (C := RX3) (T := TX3) (N := 18) (v := .ref a_168) (ty := (.object "java/lang/String")) (t0_169) (tb0) rfl in_X3 tyX3_ok nmX3 12 (by decide) q2291 (fun _ h9 => h9) rfl (by decide +kernel) rfl rfl (Nat.le_of_ble_eq_true rfl) dX3_isOneOf_93 (fun H locs hW => ?_)
              obtain ⟨σ171, hσ171⟩ : ∃ z, z = sset σ168 m (.inr (7, [.ref (A 0), .ref (A 1), .ref (A 2), .int (iv 3), .ref (A 3), .int (iv 5), .ref (A 4), .ref (A 5), .int (iv 8), .ref (A 6), .int (nI n), .int (nI p), .ref a_168, .ref (A 7), .int (iv 14), .int (iv 15), .int (iv 16), .int (iv 17)])) := ⟨_, rfl⟩
              have hW : Hl g σ171 H locs := by rw [hσ171]; exact hW
              have w171 : σ171 m = some (.inr (7, [.ref (A 0), .ref (A 1), .ref (A 2), .int (iv 3), .ref (A 3), .int (iv 5), .ref (A 4), .ref (A 5), .int (iv 8), .ref (A 6), .int (nI n), .int (nI p), .ref a_168, .ref (A 7), .int (iv 14), .int (iv 15), .int (iv 16), .int (iv 17)])) := by rw [hσ171]; exact sset_eq
              have f172 : σ171 (A 0) = some (eI g 0 114 (fun x9 => nI ((ar 0) x9))) := by rw [hσ171, sset_ne (sto_ne t0_169 ta0_169 (by simp))]; exact ta0_169
              have f173 : σ171 (A 1) = some (eI g 0 114 (fun x9 => nI ((ar 1) x9))) := by rw [hσ171, sset_ne (sto_ne t0_169 ta1_169 (by simp))]; exact ta1_169
              have f174 : σ171 (A 2) = some (eI g 0 912 (fun x9 => nI ((ar 2) x9))) := by rw [hσ171, sset_ne (sto_ne t0_169 ta2_169 (by simp))]; exact ta2_169
              have f175 : σ171 (A 3) = some (eI g 0 114 (fun x9 => nI ((ar 3) x9))) := by rw [hσ171, sset_ne (sto_ne t0_169 ta3_169 (by simp))]; exact ta3_169
              have f176 : σ171 (A 4) = some (eI g 2 2048 (fun x9 => bI (rb x9))) := by rw [hσ171, sset_ne (sto_ne t0_169 ta4_169 (by simp))]; exact ta4_169
              have f177 : σ171 (A 5) = some (eI g 3 60 (fun x9 => nI ((ar 5) x9))) := by rw [hσ171, sset_ne (sto_ne t0_169 ta5_169 (by simp))]; exact ta5_169
              have f178 : σ171 (A 6) = some (eI g 3 60 (fun x9 => nI ((ar 6) x9))) := by rw [hσ171, sset_ne (sto_ne t0_169 ta6_169 (by simp))]; exact ta6_169
              have f179 : σ171 (A 7) = some (eI g 0 3 (fun x9 => nI ((ar 7) x9))) := by rw [hσ171, sset_ne (sto_ne t0_169 ta7_169 (by simp))]; exact ta7_169
              have hst_180 : IsStr g σ171 a_168 (kwL 2) := by rw [hσ171]; exact IsStr.setO hst168 t0_169 (by decide)
              refine lv_aload_n F.x F.cd dX3_isOneOf_96 rfl (lv_at hl 0 rfl) ?_
              refine lv_dup F.x F.cd dX3_isOneOf_97 rfl ?_
              refine s_get F hW (ci := 7) (C := RX3) (T := TX3) (N := 18) (v := .int (nI p)) (w171) rfl in_X3 11 (by decide) q2290 (fun _ h9 => h9) rfl dX3_isOneOf_98 ?_
              refine lv_iload F.x F.cd dX3_isOneOf_101 (lv_at hl 5 rfl) ?_
              refine a_iadd (v := (nI (p + (cpw (ar 6) n p 2)))) F (nI_add _ _) dX3_isOneOf_103 ?_
              refine s_put F hW (ci := 7) (C := RX3) (T := TX3) (N := 18) (v := .int (nI (p + (cpw (ar 6) n p 2)))) (ty := .int) (w171) (tb0) rfl in_X3 tyX3_ok nmX3 11 (by decide) q2290 (fun _ h9 => h9) rfl (by decide +kernel) rfl rfl (Nat.le_of_ble_eq_true rfl) dX3_isOneOf_104 (fun H locs hW => ?_)
              obtain ⟨σ182, hσ182⟩ : ∃ z, z = sset σ171 m (.inr (7, [.ref (A 0), .ref (A 1), .ref (A 2), .int (iv 3), .ref (A 3), .int (iv 5), .ref (A 4), .ref (A 5), .int (iv 8), .ref (A 6), .int (nI n), .int (nI (p + (cpw (ar 6) n p 2))), .ref a_168, .ref (A 7), .int (iv 14), .int (iv 15), .int (iv 16), .int (iv 17)])) := ⟨_, rfl⟩
              have hW : Hl g σ182 H locs := by rw [hσ182]; exact hW
              have w182 : σ182 m = some (.inr (7, [.ref (A 0), .ref (A 1), .ref (A 2), .int (iv 3), .ref (A 3), .int (iv 5), .ref (A 4), .ref (A 5), .int (iv 8), .ref (A 6), .int (nI n), .int (nI (p + (cpw (ar 6) n p 2))), .ref a_168, .ref (A 7), .int (iv 14), .int (iv 15), .int (iv 16), .int (iv 17)])) := by rw [hσ182]; exact sset_eq
              have f183 : σ182 (A 0) = some (eI g 0 114 (fun x9 => nI ((ar 0) x9))) := by rw [hσ182, sset_ne (sto_ne w171 f172 (by simp))]; exact f172
              have f184 : σ182 (A 1) = some (eI g 0 114 (fun x9 => nI ((ar 1) x9))) := by rw [hσ182, sset_ne (sto_ne w171 f173 (by simp))]; exact f173
              have f185 : σ182 (A 2) = some (eI g 0 912 (fun x9 => nI ((ar 2) x9))) := by rw [hσ182, sset_ne (sto_ne w171 f174 (by simp))]; exact f174
              have f186 : σ182 (A 3) = some (eI g 0 114 (fun x9 => nI ((ar 3) x9))) := by rw [hσ182, sset_ne (sto_ne w171 f175 (by simp))]; exact f175
              have f187 : σ182 (A 4) = some (eI g 2 2048 (fun x9 => bI (rb x9))) := by rw [hσ182, sset_ne (sto_ne w171 f176 (by simp))]; exact f176
              have f188 : σ182 (A 5) = some (eI g 3 60 (fun x9 => nI ((ar 5) x9))) := by rw [hσ182, sset_ne (sto_ne w171 f177 (by simp))]; exact f177
              have f189 : σ182 (A 6) = some (eI g 3 60 (fun x9 => nI ((ar 6) x9))) := by rw [hσ182, sset_ne (sto_ne w171 f178 (by simp))]; exact f178
              have f190 : σ182 (A 7) = some (eI g 0 3 (fun x9 => nI ((ar 7) x9))) := by rw [hσ182, sset_ne (sto_ne w171 f179 (by simp))]; exact f179
              have hst_191 : IsStr g σ182 a_168 (kwL 2) := by rw [hσ182]; exact IsStr.setO hst_180 w171 (by decide)
              have tw192 : IsTw g σ182 m A (va_up (va_up iv 10 (nI n)) 11 (nI (p + (cpw (ar 6) n p 2)))) a_168 ar rb := ⟨w182, tb0, f183, f184, f185, f186, f187, f188, f189, f190, tbb, tii⟩
              have fm192 : Fm σ σ182 m A := by rw [hσ182, hσ171]; exact ((fx_169).setM).setM
              have tw_193 : IsTw g σ182 m A (va_up (va_up iv 10 (nI n)) 11 (nI (p + 5))) a_168 ar rb := by
                rw [show p + 5 = p + cpw (ar 6) n p 2 by rw [c_82]]
                exact ⟨w182, tb0, f183, f184, f185, f186, f187, f188, f189, f190, tbb, tii⟩
              obtain ⟨t0_193, -, ta0_193, ta1_193, ta2_193, ta3_193, ta4_193, ta5_193, ta6_193, ta7_193, -, -⟩ := id tw_193
              refine lv_iconst (v := (nI 1)) F.x F.cd dX3_isOneOf_107 (by decide) ?_
              subst hQ
              exact s_reti (v := (nI 1)) F hW (by decide) (Or.inl ⟨2, by decide, hall2, c_82, rfl, a_168, by assumption, hst_191, tw_193, fm192⟩) ⟨(Nat.le_of_ble_eq_true rfl), (Nat.le_of_ble_eq_true rfl)⟩ dX3_isOneOf_108
          have loop24 : ∀ (nk : Nat) (k : Nat), k + nk = 5 → (cpl (ar 6) n p 12 k nk = cpw (ar 6) n p 2) → p + k ≤ n → ∀ (H : Heap) (locs : List Loc) (ls : Array Slot), Hl g σ H locs → lv_has ls 6 [(0, .ref m), (1, .ref a), (2, .int (nI (max (max 0 (cpw (ar 6) n p 0)) (cpw (ar 6) n p 1)))), (3, .int (nI 12)), (4, .int (nI 17)), (5, .int (nI k))] → W p_ l e_ ({ frames := 5, cells := 2, slots := 132, locals := 152 } : Room) s_ m_ args_ below_ meth_ c_ H locs 0 0 Q (F0 m_ 24 ls ([])) := by
            intro nk
            induction nk with
            | zero =>
              intro k hknk hfd hpk H locs ls hW hl
              refine lv_iload F.x F.cd dX3_isOneOf_24 (lv_at hl 5 rfl) ?_
              refine lv_iload F.x F.cd dX3_isOneOf_26 (lv_at hl 4 rfl) ?_
              refine lv_iload_n F.x F.cd dX3_isOneOf_28 rfl (lv_at hl 3 rfl) ?_
              refine a_isub (v := (nI 5)) F (by decide) dX3_isOneOf_29 ?_
              refine n_icmp_ge (a := k) (b := 5) (tgt := 76) F (by omega) (by omega) dX3_isOneOf_30 (by decide) (fun c_30 => ?_) (fun c_30 => ?_)
              · rw [cpl] at hfd
                have hl : lv_has ls 6 [(0, .ref m), (1, .ref a), (2, .int (nI (max (max 0 (cpw (ar 6) n p 0)) (cpw (ar 6) n p 1)))), (3, .int (nI 12)), (4, .int (nI 17)), (5, .int (nI (cpw (ar 6) n p 2)))] := by rw [← hfd]; exact hl
                exact kont2 H locs ls hW (lv_sub hl [0, 1, 2, 3, 4, 5] rfl)
              · exact absurd c_30 (by omega)
            | succ nk ih24 =>
              intro k hknk hfd hpk H locs ls hW hl
              refine lv_iload F.x F.cd dX3_isOneOf_24 (lv_at hl 5 rfl) ?_
              refine lv_iload F.x F.cd dX3_isOneOf_26 (lv_at hl 4 rfl) ?_
              refine lv_iload_n F.x F.cd dX3_isOneOf_28 rfl (lv_at hl 3 rfl) ?_
              refine a_isub (v := (nI 5)) F (by decide) dX3_isOneOf_29 ?_
              refine n_icmp_ge (a := k) (b := 5) (tgt := 76) F (by omega) (by omega) dX3_isOneOf_30 (by decide) (fun c_30 => ?_) (fun c_30 => ?_)
              · exact absurd c_30 (by omega)
              · refine lv_aload_n F.x F.cd dX3_isOneOf_33 rfl (lv_at hl 0 rfl) ?_
                refine s_get F hW (ci := 7) (C := RX3) (T := TX3) (N := 18) (v := .int (nI p)) (t0_1) rfl in_X3 11 (by decide) q2290 (fun _ h9 => h9) rfl dX3_isOneOf_34 ?_
                refine lv_iload F.x F.cd dX3_isOneOf_37 (lv_at hl 5 rfl) ?_
                refine a_iadd (v := (nI (p + k))) F (nI_add _ _) dX3_isOneOf_39 ?_
                refine lv_aload_n F.x F.cd dX3_isOneOf_40 rfl (lv_at hl 0 rfl) ?_
                refine s_get F hW (ci := 7) (C := RX3) (T := TX3) (N := 18) (v := .int (nI n)) (t0_1) rfl in_X3 10 (by decide) q2289 (fun _ h9 => h9) rfl dX3_isOneOf_41 ?_
                refine n_icmp_ge (a := p + k) (b := n) (tgt := 76) F (by omega) (by omega) dX3_isOneOf_44 (by decide) (fun c_44 => ?_) (fun c_44 => ?_)
                · have h9f : ¬ (p + k < n ∧ ar 6 (p + k) = WL.getD (12 + k) 0) := fun h9 => absurd h9.1 (by omega)
                  rw [cpl_f h9f] at hfd
                  have hl : lv_has ls 6 [(0, .ref m), (1, .ref a), (2, .int (nI (max (max 0 (cpw (ar 6) n p 0)) (cpw (ar 6) n p 1)))), (3, .int (nI 12)), (4, .int (nI 17)), (5, .int (nI (cpw (ar 6) n p 2)))] := by rw [← hfd]; exact hl
                  exact kont2 H locs ls hW (lv_sub hl [0, 1, 2, 3, 4, 5] rfl)
                · have hTp := hT (p + k) (by omega)
                  have hWp := bts_lt hL (12 + k)
                  refine lv_aload_n F.x F.cd dX3_isOneOf_47 rfl (lv_at hl 0 rfl) ?_
                  refine s_get F hW (ci := 7) (C := RX3) (T := TX3) (N := 18) (v := .ref (A 6)) (t0_1) rfl in_X3 9 (by decide) q2288 (fun _ h9 => h9) rfl dX3_isOneOf_48 ?_
                  refine lv_aload_n F.x F.cd dX3_isOneOf_51 rfl (lv_at hl 0 rfl) ?_
                  refine s_get F hW (ci := 7) (C := RX3) (T := TX3) (N := 18) (v := .int (nI p)) (t0_1) rfl in_X3 11 (by decide) q2290 (fun _ h9 => h9) rfl dX3_isOneOf_52 ?_
                  refine lv_iload F.x F.cd dX3_isOneOf_55 (lv_at hl 5 rfl) ?_
                  refine a_iadd (v := (nI (p + k))) F (nI_add _ _) dX3_isOneOf_57 ?_
                  refine n_cald (i := p + k) (n := 60) (f := (fun x9 => nI ((ar 6) x9))) (x := (nI ((ar 6) (p + k)))) F hW (ta6_1) (by omega) (by omega) (rfl) dX3_isOneOf_58 ?_
                  refine lv_aload_n F.x F.cd dX3_isOneOf_59 rfl (lv_at hl 1 rfl) ?_
                  refine lv_iload_n F.x F.cd dX3_isOneOf_60 rfl (lv_at hl 3 rfl) ?_
                  refine lv_iload F.x F.cd dX3_isOneOf_61 (lv_at hl 5 rfl) ?_
                  refine a_iadd (v := (nI (12 + k))) F (nI_add _ _) dX3_isOneOf_63 ?_
                  refine s_callV (As := [.int (nI (12 + k))]) (rest := [.int (nI ((ar 6) (p + k)))]) (C := RJ7) (T := TJ7) (N := 4) (n := 1) F hW (k_J7_charAt g l σ a WL (12 + k) hs (by omega) (by omega)) (e0) rfl q2742 q1893 q1894 q77 q1895 rfl (by decide +kernel) rfl ⟨⟨Nat.le_of_ble_eq_true rfl, Nat.le_of_ble_eq_true rfl⟩, ⟨(Nat.le_of_ble_eq_true rfl), (Nat.le_of_ble_eq_true rfl)⟩⟩ (Nat.le_of_ble_eq_true rfl) hl.1 rfl dX3_isOneOf_64 cX_no (fun r194 σ194 H locs hp194 hW => ?_)
                  obtain ⟨rfl, hs194⟩ := hp194
                  rw [hs194] at hW
                  refine W.eq (g2 := F0 m_ 67 ls (.int (nI (WL.getD (12 + k) 0)) :: .int (nI ((ar 6) (p + k))) :: [])) rfl ?_
                  refine n_icmp_ne (a := (ar 6) (p + k)) (b := WL.getD (12 + k) 0) (tgt := 76) F (by omega) (by omega) dX3_isOneOf_67 (by decide) (fun c_67 => ?_) (fun c_67 => ?_)
                  · have h9f : ¬ (p + k < n ∧ ar 6 (p + k) = WL.getD (12 + k) 0) := fun h9 => c_67 h9.2
                    rw [cpl_f h9f] at hfd
                    have hl : lv_has ls 6 [(0, .ref m), (1, .ref a), (2, .int (nI (max (max 0 (cpw (ar 6) n p 0)) (cpw (ar 6) n p 1)))), (3, .int (nI 12)), (4, .int (nI 17)), (5, .int (nI (cpw (ar 6) n p 2)))] := by rw [← hfd]; exact hl
                    exact kont2 H locs ls hW (lv_sub hl [0, 1, 2, 3, 4, 5] rfl)
                  · have h9t : p + k < n ∧ ar 6 (p + k) = WL.getD (12 + k) 0 := ⟨by omega, c_67⟩
                    refine lv_iinc (k := 5) (v := (nI (k + 1))) (lv' := [(5, .int (nI (k + 1))), (0, .ref m), (1, .ref a), (2, .int (nI (max (max 0 (cpw (ar 6) n p 0)) (cpw (ar 6) n p 1)))), (3, .int (nI 12)), (4, .int (nI 17))]) F.x F.cd dX3_isOneOf_70 hl rfl (inc_nI k 1) (by decide) rfl (fun ls hl => ?_)
                    refine lv_goto (tgt := 24) F.x F.cd dX3_isOneOf_73 (by decide) ?_
                    exact ih24 (k + 1) (by omega) (by rw [cpl_t h9t] at hfd; exact hfd) (by omega) H locs ls hW (lv_sub hl [1, 2, 3, 4, 5, 0] rfl)
          exact loop24 (5) 0 (by omega) (rfl) (by omega) H locs ls hW (lv_sub hl [4, 5, 3, 2, 1, 0] rfl)
        · refine lv_aload_n F.x F.cd dX3_isOneOf_85 rfl (lv_at hl 0 rfl) ?_
          refine lv_aload_n F.x F.cd dX3_isOneOf_86 rfl (lv_at hl 1 rfl) ?_
          refine lv_iload_n F.x F.cd dX3_isOneOf_87 rfl (lv_at hl 3 rfl) ?_
          refine lv_iload F.x F.cd dX3_isOneOf_88 (lv_at hl 4 rfl) ?_
          refine s_callV (As := [.int (nI 6), .int (nI 11)]) (rest := [.ref m]) (C := RJ7) (T := TJ7) (N := 4) (n := 2) F hW (k_J7_substring g l σ a WL 6 11 hs (by decide) (by decide) (by decide) (by decide) (by decide)) (e0) rfl q2743 q2744 q2745 q77 q2746 rfl (by decide +kernel) rfl ⟨⟨Nat.le_of_ble_eq_true rfl, Nat.le_of_ble_eq_true rfl⟩, ⟨(Nat.le_of_ble_eq_true rfl), (Nat.le_of_ble_eq_true rfl)⟩⟩ (Nat.le_of_ble_eq_true rfl) hl.1 rfl dX3_isOneOf_90 cX_no (fun r195 σ195 H locs hp195 hW => ?_)
          obtain ⟨a_195, rfl, hba195, hna195, hst195, hxt195⟩ := hp195
          refine W.eq (g2 := F0 m_ 93 ls (.ref a_195 :: .ref m :: [])) rfl ?_
          have tx_196 := IsTw.ext tw_1 hxt195
          have fx_196 : Fm σ σ195 m A := Fm.ext Fm.refl hxt195
          obtain ⟨t0_196, -, ta0_196, ta1_196, ta2_196, ta3_196, ta4_196, ta5_196, ta6_196, ta7_196, -, -⟩ := id tx_196
          refine s_put F hW (ci := 7) (C := RX3) (T := TX3) (N := 18) (v := .ref a_195) (ty := (.object "java/lang/String")) (t0_196) (tb0) rfl in_X3 tyX3_ok nmX3 12 (by decide) q2291 (fun _ h9 => h9) rfl (by decide +kernel) rfl rfl (Nat.le_of_ble_eq_true rfl) dX3_isOneOf_93 (fun H locs hW => ?_)
          obtain ⟨σ198, hσ198⟩ : ∃ z, z = sset σ195 m (.inr (7, [.ref (A 0), .ref (A 1), .ref (A 2), .int (iv 3), .ref (A 3), .int (iv 5), .ref (A 4), .ref (A 5), .int (iv 8), .ref (A 6), .int (nI n), .int (nI p), .ref a_195, .ref (A 7), .int (iv 14), .int (iv 15), .int (iv 16), .int (iv 17)])) := ⟨_, rfl⟩
          have hW : Hl g σ198 H locs := by rw [hσ198]; exact hW
          have w198 : σ198 m = some (.inr (7, [.ref (A 0), .ref (A 1), .ref (A 2), .int (iv 3), .ref (A 3), .int (iv 5), .ref (A 4), .ref (A 5), .int (iv 8), .ref (A 6), .int (nI n), .int (nI p), .ref a_195, .ref (A 7), .int (iv 14), .int (iv 15), .int (iv 16), .int (iv 17)])) := by rw [hσ198]; exact sset_eq
          have f199 : σ198 (A 0) = some (eI g 0 114 (fun x9 => nI ((ar 0) x9))) := by rw [hσ198, sset_ne (sto_ne t0_196 ta0_196 (by simp))]; exact ta0_196
          have f200 : σ198 (A 1) = some (eI g 0 114 (fun x9 => nI ((ar 1) x9))) := by rw [hσ198, sset_ne (sto_ne t0_196 ta1_196 (by simp))]; exact ta1_196
          have f201 : σ198 (A 2) = some (eI g 0 912 (fun x9 => nI ((ar 2) x9))) := by rw [hσ198, sset_ne (sto_ne t0_196 ta2_196 (by simp))]; exact ta2_196
          have f202 : σ198 (A 3) = some (eI g 0 114 (fun x9 => nI ((ar 3) x9))) := by rw [hσ198, sset_ne (sto_ne t0_196 ta3_196 (by simp))]; exact ta3_196
          have f203 : σ198 (A 4) = some (eI g 2 2048 (fun x9 => bI (rb x9))) := by rw [hσ198, sset_ne (sto_ne t0_196 ta4_196 (by simp))]; exact ta4_196
          have f204 : σ198 (A 5) = some (eI g 3 60 (fun x9 => nI ((ar 5) x9))) := by rw [hσ198, sset_ne (sto_ne t0_196 ta5_196 (by simp))]; exact ta5_196
          have f205 : σ198 (A 6) = some (eI g 3 60 (fun x9 => nI ((ar 6) x9))) := by rw [hσ198, sset_ne (sto_ne t0_196 ta6_196 (by simp))]; exact ta6_196
          have f206 : σ198 (A 7) = some (eI g 0 3 (fun x9 => nI ((ar 7) x9))) := by rw [hσ198, sset_ne (sto_ne t0_196 ta7_196 (by simp))]; exact ta7_196
          have hst_207 : IsStr g σ198 a_195 (kwL 1) := by rw [hσ198]; exact IsStr.setO hst195 t0_196 (by decide)
          refine lv_aload_n F.x F.cd dX3_isOneOf_96 rfl (lv_at hl 0 rfl) ?_
          refine lv_dup F.x F.cd dX3_isOneOf_97 rfl ?_
          refine s_get F hW (ci := 7) (C := RX3) (T := TX3) (N := 18) (v := .int (nI p)) (w198) rfl in_X3 11 (by decide) q2290 (fun _ h9 => h9) rfl dX3_isOneOf_98 ?_
          refine lv_iload F.x F.cd dX3_isOneOf_101 (lv_at hl 5 rfl) ?_
          refine a_iadd (v := (nI (p + (cpw (ar 6) n p 1)))) F (nI_add _ _) dX3_isOneOf_103 ?_
          refine s_put F hW (ci := 7) (C := RX3) (T := TX3) (N := 18) (v := .int (nI (p + (cpw (ar 6) n p 1)))) (ty := .int) (w198) (tb0) rfl in_X3 tyX3_ok nmX3 11 (by decide) q2290 (fun _ h9 => h9) rfl (by decide +kernel) rfl rfl (Nat.le_of_ble_eq_true rfl) dX3_isOneOf_104 (fun H locs hW => ?_)
          obtain ⟨σ209, hσ209⟩ : ∃ z, z = sset σ198 m (.inr (7, [.ref (A 0), .ref (A 1), .ref (A 2), .int (iv 3), .ref (A 3), .int (iv 5), .ref (A 4), .ref (A 5), .int (iv 8), .ref (A 6), .int (nI n), .int (nI (p + (cpw (ar 6) n p 1))), .ref a_195, .ref (A 7), .int (iv 14), .int (iv 15), .int (iv 16), .int (iv 17)])) := ⟨_, rfl⟩
          have hW : Hl g σ209 H locs := by rw [hσ209]; exact hW
          have w209 : σ209 m = some (.inr (7, [.ref (A 0), .ref (A 1), .ref (A 2), .int (iv 3), .ref (A 3), .int (iv 5), .ref (A 4), .ref (A 5), .int (iv 8), .ref (A 6), .int (nI n), .int (nI (p + (cpw (ar 6) n p 1))), .ref a_195, .ref (A 7), .int (iv 14), .int (iv 15), .int (iv 16), .int (iv 17)])) := by rw [hσ209]; exact sset_eq
          have f210 : σ209 (A 0) = some (eI g 0 114 (fun x9 => nI ((ar 0) x9))) := by rw [hσ209, sset_ne (sto_ne w198 f199 (by simp))]; exact f199
          have f211 : σ209 (A 1) = some (eI g 0 114 (fun x9 => nI ((ar 1) x9))) := by rw [hσ209, sset_ne (sto_ne w198 f200 (by simp))]; exact f200
          have f212 : σ209 (A 2) = some (eI g 0 912 (fun x9 => nI ((ar 2) x9))) := by rw [hσ209, sset_ne (sto_ne w198 f201 (by simp))]; exact f201
          have f213 : σ209 (A 3) = some (eI g 0 114 (fun x9 => nI ((ar 3) x9))) := by rw [hσ209, sset_ne (sto_ne w198 f202 (by simp))]; exact f202
          have f214 : σ209 (A 4) = some (eI g 2 2048 (fun x9 => bI (rb x9))) := by rw [hσ209, sset_ne (sto_ne w198 f203 (by simp))]; exact f203
          have f215 : σ209 (A 5) = some (eI g 3 60 (fun x9 => nI ((ar 5) x9))) := by rw [hσ209, sset_ne (sto_ne w198 f204 (by simp))]; exact f204
          have f216 : σ209 (A 6) = some (eI g 3 60 (fun x9 => nI ((ar 6) x9))) := by rw [hσ209, sset_ne (sto_ne w198 f205 (by simp))]; exact f205
          have f217 : σ209 (A 7) = some (eI g 0 3 (fun x9 => nI ((ar 7) x9))) := by rw [hσ209, sset_ne (sto_ne w198 f206 (by simp))]; exact f206
          have hst_218 : IsStr g σ209 a_195 (kwL 1) := by rw [hσ209]; exact IsStr.setO hst_207 w198 (by decide)
          have tw219 : IsTw g σ209 m A (va_up (va_up iv 10 (nI n)) 11 (nI (p + (cpw (ar 6) n p 1)))) a_195 ar rb := ⟨w209, tb0, f210, f211, f212, f213, f214, f215, f216, f217, tbb, tii⟩
          have fm219 : Fm σ σ209 m A := by rw [hσ209, hσ198]; exact ((fx_196).setM).setM
          have tw_220 : IsTw g σ209 m A (va_up (va_up iv 10 (nI n)) 11 (nI (p + 5))) a_195 ar rb := by
            rw [show p + 5 = p + cpw (ar 6) n p 1 by rw [c_82]]
            exact ⟨w209, tb0, f210, f211, f212, f213, f214, f215, f216, f217, tbb, tii⟩
          obtain ⟨t0_220, -, ta0_220, ta1_220, ta2_220, ta3_220, ta4_220, ta5_220, ta6_220, ta7_220, -, -⟩ := id tw_220
          refine lv_iconst (v := (nI 1)) F.x F.cd dX3_isOneOf_107 (by decide) ?_
          subst hQ
          exact s_reti (v := (nI 1)) F hW (by decide) (Or.inl ⟨1, by decide, hall1, c_82, rfl, a_195, by assumption, hst_218, tw_220, fm219⟩) ⟨(Nat.le_of_ble_eq_true rfl), (Nat.le_of_ble_eq_true rfl)⟩ dX3_isOneOf_108
      have loop24 : ∀ (nk : Nat) (k : Nat), k + nk = 5 → (cpl (ar 6) n p 6 k nk = cpw (ar 6) n p 1) → p + k ≤ n → ∀ (H : Heap) (locs : List Loc) (ls : Array Slot), Hl g σ H locs → lv_has ls 6 [(0, .ref m), (1, .ref a), (2, .int (nI (max 0 (cpw (ar 6) n p 0)))), (3, .int (nI 6)), (4, .int (nI 11)), (5, .int (nI k))] → W p_ l e_ ({ frames := 5, cells := 2, slots := 132, locals := 152 } : Room) s_ m_ args_ below_ meth_ c_ H locs 0 0 Q (F0 m_ 24 ls ([])) := by
        intro nk
        induction nk with
        | zero =>
          intro k hknk hfd hpk H locs ls hW hl
          refine lv_iload F.x F.cd dX3_isOneOf_24 (lv_at hl 5 rfl) ?_
          refine lv_iload F.x F.cd dX3_isOneOf_26 (lv_at hl 4 rfl) ?_
          refine lv_iload_n F.x F.cd dX3_isOneOf_28 rfl (lv_at hl 3 rfl) ?_
          refine a_isub (v := (nI 5)) F (by decide) dX3_isOneOf_29 ?_
          refine n_icmp_ge (a := k) (b := 5) (tgt := 76) F (by omega) (by omega) dX3_isOneOf_30 (by decide) (fun c_30 => ?_) (fun c_30 => ?_)
          · rw [cpl] at hfd
            have hl : lv_has ls 6 [(0, .ref m), (1, .ref a), (2, .int (nI (max 0 (cpw (ar 6) n p 0)))), (3, .int (nI 6)), (4, .int (nI 11)), (5, .int (nI (cpw (ar 6) n p 1)))] := by rw [← hfd]; exact hl
            exact kont1 H locs ls hW (lv_sub hl [0, 1, 2, 3, 4, 5] rfl)
          · exact absurd c_30 (by omega)
        | succ nk ih24 =>
          intro k hknk hfd hpk H locs ls hW hl
          refine lv_iload F.x F.cd dX3_isOneOf_24 (lv_at hl 5 rfl) ?_
          refine lv_iload F.x F.cd dX3_isOneOf_26 (lv_at hl 4 rfl) ?_
          refine lv_iload_n F.x F.cd dX3_isOneOf_28 rfl (lv_at hl 3 rfl) ?_
          refine a_isub (v := (nI 5)) F (by decide) dX3_isOneOf_29 ?_
          refine n_icmp_ge (a := k) (b := 5) (tgt := 76) F (by omega) (by omega) dX3_isOneOf_30 (by decide) (fun c_30 => ?_) (fun c_30 => ?_)
          · exact absurd c_30 (by omega)
          · refine lv_aload_n F.x F.cd dX3_isOneOf_33 rfl (lv_at hl 0 rfl) ?_
            refine s_get F hW (ci := 7) (C := RX3) (T := TX3) (N := 18) (v := .int (nI p)) (t0_1) rfl in_X3 11 (by decide) q2290 (fun _ h9 => h9) rfl dX3_isOneOf_34 ?_
            refine lv_iload F.x F.cd dX3_isOneOf_37 (lv_at hl 5 rfl) ?_
            refine a_iadd (v := (nI (p + k))) F (nI_add _ _) dX3_isOneOf_39 ?_
            refine lv_aload_n F.x F.cd dX3_isOneOf_40 rfl (lv_at hl 0 rfl) ?_
            refine s_get F hW (ci := 7) (C := RX3) (T := TX3) (N := 18) (v := .int (nI n)) (t0_1) rfl in_X3 10 (by decide) q2289 (fun _ h9 => h9) rfl dX3_isOneOf_41 ?_
            refine n_icmp_ge (a := p + k) (b := n) (tgt := 76) F (by omega) (by omega) dX3_isOneOf_44 (by decide) (fun c_44 => ?_) (fun c_44 => ?_)
            · have h9f : ¬ (p + k < n ∧ ar 6 (p + k) = WL.getD (6 + k) 0) := fun h9 => absurd h9.1 (by omega)
              rw [cpl_f h9f] at hfd
              have hl : lv_has ls 6 [(0, .ref m), (1, .ref a), (2, .int (nI (max 0 (cpw (ar 6) n p 0)))), (3, .int (nI 6)), (4, .int (nI 11)), (5, .int (nI (cpw (ar 6) n p 1)))] := by rw [← hfd]; exact hl
              exact kont1 H locs ls hW (lv_sub hl [0, 1, 2, 3, 4, 5] rfl)
            · have hTp := hT (p + k) (by omega)
              have hWp := bts_lt hL (6 + k)
              refine lv_aload_n F.x F.cd dX3_isOneOf_47 rfl (lv_at hl 0 rfl) ?_
              refine s_get F hW (ci := 7) (C := RX3) (T := TX3) (N := 18) (v := .ref (A 6)) (t0_1) rfl in_X3 9 (by decide) q2288 (fun _ h9 => h9) rfl dX3_isOneOf_48 ?_
              refine lv_aload_n F.x F.cd dX3_isOneOf_51 rfl (lv_at hl 0 rfl) ?_
              refine s_get F hW (ci := 7) (C := RX3) (T := TX3) (N := 18) (v := .int (nI p)) (t0_1) rfl in_X3 11 (by decide) q2290 (fun _ h9 => h9) rfl dX3_isOneOf_52 ?_
              refine lv_iload F.x F.cd dX3_isOneOf_55 (lv_at hl 5 rfl) ?_
              refine a_iadd (v := (nI (p + k))) F (nI_add _ _) dX3_isOneOf_57 ?_
              refine n_cald (i := p + k) (n := 60) (f := (fun x9 => nI ((ar 6) x9))) (x := (nI ((ar 6) (p + k)))) F hW (ta6_1) (by omega) (by omega) (rfl) dX3_isOneOf_58 ?_
              refine lv_aload_n F.x F.cd dX3_isOneOf_59 rfl (lv_at hl 1 rfl) ?_
              refine lv_iload_n F.x F.cd dX3_isOneOf_60 rfl (lv_at hl 3 rfl) ?_
              refine lv_iload F.x F.cd dX3_isOneOf_61 (lv_at hl 5 rfl) ?_
              refine a_iadd (v := (nI (6 + k))) F (nI_add _ _) dX3_isOneOf_63 ?_
              refine s_callV (As := [.int (nI (6 + k))]) (rest := [.int (nI ((ar 6) (p + k)))]) (C := RJ7) (T := TJ7) (N := 4) (n := 1) F hW (k_J7_charAt g l σ a WL (6 + k) hs (by omega) (by omega)) (e0) rfl q2742 q1893 q1894 q77 q1895 rfl (by decide +kernel) rfl ⟨⟨Nat.le_of_ble_eq_true rfl, Nat.le_of_ble_eq_true rfl⟩, ⟨(Nat.le_of_ble_eq_true rfl), (Nat.le_of_ble_eq_true rfl)⟩⟩ (Nat.le_of_ble_eq_true rfl) hl.1 rfl dX3_isOneOf_64 cX_no (fun r221 σ221 H locs hp221 hW => ?_)
              obtain ⟨rfl, hs221⟩ := hp221
              rw [hs221] at hW
              refine W.eq (g2 := F0 m_ 67 ls (.int (nI (WL.getD (6 + k) 0)) :: .int (nI ((ar 6) (p + k))) :: [])) rfl ?_
              refine n_icmp_ne (a := (ar 6) (p + k)) (b := WL.getD (6 + k) 0) (tgt := 76) F (by omega) (by omega) dX3_isOneOf_67 (by decide) (fun c_67 => ?_) (fun c_67 => ?_)
              · have h9f : ¬ (p + k < n ∧ ar 6 (p + k) = WL.getD (6 + k) 0) := fun h9 => c_67 h9.2
                rw [cpl_f h9f] at hfd
                have hl : lv_has ls 6 [(0, .ref m), (1, .ref a), (2, .int (nI (max 0 (cpw (ar 6) n p 0)))), (3, .int (nI 6)), (4, .int (nI 11)), (5, .int (nI (cpw (ar 6) n p 1)))] := by rw [← hfd]; exact hl
                exact kont1 H locs ls hW (lv_sub hl [0, 1, 2, 3, 4, 5] rfl)
              · have h9t : p + k < n ∧ ar 6 (p + k) = WL.getD (6 + k) 0 := ⟨by omega, c_67⟩
                refine lv_iinc (k := 5) (v := (nI (k + 1))) (lv' := [(5, .int (nI (k + 1))), (0, .ref m), (1, .ref a), (2, .int (nI (max 0 (cpw (ar 6) n p 0)))), (3, .int (nI 6)), (4, .int (nI 11))]) F.x F.cd dX3_isOneOf_70 hl rfl (inc_nI k 1) (by decide) rfl (fun ls hl => ?_)
                refine lv_goto (tgt := 24) F.x F.cd dX3_isOneOf_73 (by decide) ?_
                exact ih24 (k + 1) (by omega) (by rw [cpl_t h9t] at hfd; exact hfd) (by omega) H locs ls hW (lv_sub hl [1, 2, 3, 4, 5, 0] rfl)
      exact loop24 (5) 0 (by omega) (rfl) (by omega) H locs ls hW (lv_sub hl [4, 5, 3, 2, 1, 0] rfl)
    · refine lv_aload_n F.x F.cd dX3_isOneOf_85 rfl (lv_at hl 0 rfl) ?_
      refine lv_aload_n F.x F.cd dX3_isOneOf_86 rfl (lv_at hl 1 rfl) ?_
      refine lv_iload_n F.x F.cd dX3_isOneOf_87 rfl (lv_at hl 3 rfl) ?_
      refine lv_iload F.x F.cd dX3_isOneOf_88 (lv_at hl 4 rfl) ?_
      refine s_callV (As := [.int (nI 0), .int (nI 5)]) (rest := [.ref m]) (C := RJ7) (T := TJ7) (N := 4) (n := 2) F hW (k_J7_substring g l σ a WL 0 5 hs (by decide) (by decide) (by decide) (by decide) (by decide)) (e0) rfl q2743 q2744 q2745 q77 q2746 rfl (by decide +kernel) rfl ⟨⟨Nat.le_of_ble_eq_true rfl, Nat.le_of_ble_eq_true rfl⟩, ⟨(Nat.le_of_ble_eq_true rfl), (Nat.le_of_ble_eq_true rfl)⟩⟩ (Nat.le_of_ble_eq_true rfl) hl.1 rfl dX3_isOneOf_90 cX_no (fun r222 σ222 H locs hp222 hW => ?_)
      obtain ⟨a_222, rfl, hba222, hna222, hst222, hxt222⟩ := hp222
      refine W.eq (g2 := F0 m_ 93 ls (.ref a_222 :: .ref m :: [])) rfl ?_
      have tx_223 := IsTw.ext tw_1 hxt222
      have fx_223 : Fm σ σ222 m A := Fm.ext Fm.refl hxt222
      obtain ⟨t0_223, -, ta0_223, ta1_223, ta2_223, ta3_223, ta4_223, ta5_223, ta6_223, ta7_223, -, -⟩ := id tx_223
      refine s_put F hW (ci := 7) (C := RX3) (T := TX3) (N := 18) (v := .ref a_222) (ty := (.object "java/lang/String")) (t0_223) (tb0) rfl in_X3 tyX3_ok nmX3 12 (by decide) q2291 (fun _ h9 => h9) rfl (by decide +kernel) rfl rfl (Nat.le_of_ble_eq_true rfl) dX3_isOneOf_93 (fun H locs hW => ?_)
      obtain ⟨σ225, hσ225⟩ : ∃ z, z = sset σ222 m (.inr (7, [.ref (A 0), .ref (A 1), .ref (A 2), .int (iv 3), .ref (A 3), .int (iv 5), .ref (A 4), .ref (A 5), .int (iv 8), .ref (A 6), .int (nI n), .int (nI p), .ref a_222, .ref (A 7), .int (iv 14), .int (iv 15), .int (iv 16), .int (iv 17)])) := ⟨_, rfl⟩
      have hW : Hl g σ225 H locs := by rw [hσ225]; exact hW
      have w225 : σ225 m = some (.inr (7, [.ref (A 0), .ref (A 1), .ref (A 2), .int (iv 3), .ref (A 3), .int (iv 5), .ref (A 4), .ref (A 5), .int (iv 8), .ref (A 6), .int (nI n), .int (nI p), .ref a_222, .ref (A 7), .int (iv 14), .int (iv 15), .int (iv 16), .int (iv 17)])) := by rw [hσ225]; exact sset_eq
      have f226 : σ225 (A 0) = some (eI g 0 114 (fun x9 => nI ((ar 0) x9))) := by rw [hσ225, sset_ne (sto_ne t0_223 ta0_223 (by simp))]; exact ta0_223
      have f227 : σ225 (A 1) = some (eI g 0 114 (fun x9 => nI ((ar 1) x9))) := by rw [hσ225, sset_ne (sto_ne t0_223 ta1_223 (by simp))]; exact ta1_223
      have f228 : σ225 (A 2) = some (eI g 0 912 (fun x9 => nI ((ar 2) x9))) := by rw [hσ225, sset_ne (sto_ne t0_223 ta2_223 (by simp))]; exact ta2_223
      have f229 : σ225 (A 3) = some (eI g 0 114 (fun x9 => nI ((ar 3) x9))) := by rw [hσ225, sset_ne (sto_ne t0_223 ta3_223 (by simp))]; exact ta3_223
      have f230 : σ225 (A 4) = some (eI g 2 2048 (fun x9 => bI (rb x9))) := by rw [hσ225, sset_ne (sto_ne t0_223 ta4_223 (by simp))]; exact ta4_223
      have f231 : σ225 (A 5) = some (eI g 3 60 (fun x9 => nI ((ar 5) x9))) := by rw [hσ225, sset_ne (sto_ne t0_223 ta5_223 (by simp))]; exact ta5_223
      have f232 : σ225 (A 6) = some (eI g 3 60 (fun x9 => nI ((ar 6) x9))) := by rw [hσ225, sset_ne (sto_ne t0_223 ta6_223 (by simp))]; exact ta6_223
      have f233 : σ225 (A 7) = some (eI g 0 3 (fun x9 => nI ((ar 7) x9))) := by rw [hσ225, sset_ne (sto_ne t0_223 ta7_223 (by simp))]; exact ta7_223
      have hst_234 : IsStr g σ225 a_222 (kwL 0) := by rw [hσ225]; exact IsStr.setO hst222 t0_223 (by decide)
      refine lv_aload_n F.x F.cd dX3_isOneOf_96 rfl (lv_at hl 0 rfl) ?_
      refine lv_dup F.x F.cd dX3_isOneOf_97 rfl ?_
      refine s_get F hW (ci := 7) (C := RX3) (T := TX3) (N := 18) (v := .int (nI p)) (w225) rfl in_X3 11 (by decide) q2290 (fun _ h9 => h9) rfl dX3_isOneOf_98 ?_
      refine lv_iload F.x F.cd dX3_isOneOf_101 (lv_at hl 5 rfl) ?_
      refine a_iadd (v := (nI (p + (cpw (ar 6) n p 0)))) F (nI_add _ _) dX3_isOneOf_103 ?_
      refine s_put F hW (ci := 7) (C := RX3) (T := TX3) (N := 18) (v := .int (nI (p + (cpw (ar 6) n p 0)))) (ty := .int) (w225) (tb0) rfl in_X3 tyX3_ok nmX3 11 (by decide) q2290 (fun _ h9 => h9) rfl (by decide +kernel) rfl rfl (Nat.le_of_ble_eq_true rfl) dX3_isOneOf_104 (fun H locs hW => ?_)
      obtain ⟨σ236, hσ236⟩ : ∃ z, z = sset σ225 m (.inr (7, [.ref (A 0), .ref (A 1), .ref (A 2), .int (iv 3), .ref (A 3), .int (iv 5), .ref (A 4), .ref (A 5), .int (iv 8), .ref (A 6), .int (nI n), .int (nI (p + (cpw (ar 6) n p 0))), .ref a_222, .ref (A 7), .int (iv 14), .int (iv 15), .int (iv 16), .int (iv 17)])) := ⟨_, rfl⟩
      have hW : Hl g σ236 H locs := by rw [hσ236]; exact hW
      have w236 : σ236 m = some (.inr (7, [.ref (A 0), .ref (A 1), .ref (A 2), .int (iv 3), .ref (A 3), .int (iv 5), .ref (A 4), .ref (A 5), .int (iv 8), .ref (A 6), .int (nI n), .int (nI (p + (cpw (ar 6) n p 0))), .ref a_222, .ref (A 7), .int (iv 14), .int (iv 15), .int (iv 16), .int (iv 17)])) := by rw [hσ236]; exact sset_eq
      have f237 : σ236 (A 0) = some (eI g 0 114 (fun x9 => nI ((ar 0) x9))) := by rw [hσ236, sset_ne (sto_ne w225 f226 (by simp))]; exact f226
      have f238 : σ236 (A 1) = some (eI g 0 114 (fun x9 => nI ((ar 1) x9))) := by rw [hσ236, sset_ne (sto_ne w225 f227 (by simp))]; exact f227
      have f239 : σ236 (A 2) = some (eI g 0 912 (fun x9 => nI ((ar 2) x9))) := by rw [hσ236, sset_ne (sto_ne w225 f228 (by simp))]; exact f228
      have f240 : σ236 (A 3) = some (eI g 0 114 (fun x9 => nI ((ar 3) x9))) := by rw [hσ236, sset_ne (sto_ne w225 f229 (by simp))]; exact f229
      have f241 : σ236 (A 4) = some (eI g 2 2048 (fun x9 => bI (rb x9))) := by rw [hσ236, sset_ne (sto_ne w225 f230 (by simp))]; exact f230
      have f242 : σ236 (A 5) = some (eI g 3 60 (fun x9 => nI ((ar 5) x9))) := by rw [hσ236, sset_ne (sto_ne w225 f231 (by simp))]; exact f231
      have f243 : σ236 (A 6) = some (eI g 3 60 (fun x9 => nI ((ar 6) x9))) := by rw [hσ236, sset_ne (sto_ne w225 f232 (by simp))]; exact f232
      have f244 : σ236 (A 7) = some (eI g 0 3 (fun x9 => nI ((ar 7) x9))) := by rw [hσ236, sset_ne (sto_ne w225 f233 (by simp))]; exact f233
      have hst_245 : IsStr g σ236 a_222 (kwL 0) := by rw [hσ236]; exact IsStr.setO hst_234 w225 (by decide)
      have tw246 : IsTw g σ236 m A (va_up (va_up iv 10 (nI n)) 11 (nI (p + (cpw (ar 6) n p 0)))) a_222 ar rb := ⟨w236, tb0, f237, f238, f239, f240, f241, f242, f243, f244, tbb, tii⟩
      have fm246 : Fm σ σ236 m A := by rw [hσ236, hσ225]; exact ((fx_223).setM).setM
      have tw_247 : IsTw g σ236 m A (va_up (va_up iv 10 (nI n)) 11 (nI (p + 5))) a_222 ar rb := by
        rw [show p + 5 = p + cpw (ar 6) n p 0 by rw [c_82]]
        exact ⟨w236, tb0, f237, f238, f239, f240, f241, f242, f243, f244, tbb, tii⟩
      obtain ⟨t0_247, -, ta0_247, ta1_247, ta2_247, ta3_247, ta4_247, ta5_247, ta6_247, ta7_247, -, -⟩ := id tw_247
      refine lv_iconst (v := (nI 1)) F.x F.cd dX3_isOneOf_107 (by decide) ?_
      subst hQ
      exact s_reti (v := (nI 1)) F hW (by decide) (Or.inl ⟨0, by decide, hall0, c_82, rfl, a_222, by assumption, hst_245, tw_247, fm246⟩) ⟨(Nat.le_of_ble_eq_true rfl), (Nat.le_of_ble_eq_true rfl)⟩ dX3_isOneOf_108
  have loop24 : ∀ (nk : Nat) (k : Nat), k + nk = 5 → (cpl (ar 6) n p 0 k nk = cpw (ar 6) n p 0) → p + k ≤ n → ∀ (H : Heap) (locs : List Loc) (ls : Array Slot), Hl g σ H locs → lv_has ls 6 [(0, .ref m), (1, .ref a), (2, .int (nI 0)), (3, .int (nI 0)), (4, .int (nI 5)), (5, .int (nI k))] → W p_ l e_ ({ frames := 5, cells := 2, slots := 132, locals := 152 } : Room) s_ m_ args_ below_ meth_ c_ H locs 0 0 Q (F0 m_ 24 ls ([])) := by
    intro nk
    induction nk with
    | zero =>
      intro k hknk hfd hpk H locs ls hW hl
      refine lv_iload F.x F.cd dX3_isOneOf_24 (lv_at hl 5 rfl) ?_
      refine lv_iload F.x F.cd dX3_isOneOf_26 (lv_at hl 4 rfl) ?_
      refine lv_iload_n F.x F.cd dX3_isOneOf_28 rfl (lv_at hl 3 rfl) ?_
      refine a_isub (v := (nI 5)) F (by decide) dX3_isOneOf_29 ?_
      refine n_icmp_ge (a := k) (b := 5) (tgt := 76) F (by omega) (by omega) dX3_isOneOf_30 (by decide) (fun c_30 => ?_) (fun c_30 => ?_)
      · rw [cpl] at hfd
        have hl : lv_has ls 6 [(0, .ref m), (1, .ref a), (2, .int (nI 0)), (3, .int (nI 0)), (4, .int (nI 5)), (5, .int (nI (cpw (ar 6) n p 0)))] := by rw [← hfd]; exact hl
        exact kont0 H locs ls hW (lv_sub hl [0, 1, 2, 3, 4, 5] rfl)
      · exact absurd c_30 (by omega)
    | succ nk ih24 =>
      intro k hknk hfd hpk H locs ls hW hl
      refine lv_iload F.x F.cd dX3_isOneOf_24 (lv_at hl 5 rfl) ?_
      refine lv_iload F.x F.cd dX3_isOneOf_26 (lv_at hl 4 rfl) ?_
      refine lv_iload_n F.x F.cd dX3_isOneOf_28 rfl (lv_at hl 3 rfl) ?_
      refine a_isub (v := (nI 5)) F (by decide) dX3_isOneOf_29 ?_
      refine n_icmp_ge (a := k) (b := 5) (tgt := 76) F (by omega) (by omega) dX3_isOneOf_30 (by decide) (fun c_30 => ?_) (fun c_30 => ?_)
      · exact absurd c_30 (by omega)
      · refine lv_aload_n F.x F.cd dX3_isOneOf_33 rfl (lv_at hl 0 rfl) ?_
        refine s_get F hW (ci := 7) (C := RX3) (T := TX3) (N := 18) (v := .int (nI p)) (t0_1) rfl in_X3 11 (by decide) q2290 (fun _ h9 => h9) rfl dX3_isOneOf_34 ?_
        refine lv_iload F.x F.cd dX3_isOneOf_37 (lv_at hl 5 rfl) ?_
        refine a_iadd (v := (nI (p + k))) F (nI_add _ _) dX3_isOneOf_39 ?_
        refine lv_aload_n F.x F.cd dX3_isOneOf_40 rfl (lv_at hl 0 rfl) ?_
        refine s_get F hW (ci := 7) (C := RX3) (T := TX3) (N := 18) (v := .int (nI n)) (t0_1) rfl in_X3 10 (by decide) q2289 (fun _ h9 => h9) rfl dX3_isOneOf_41 ?_
        refine n_icmp_ge (a := p + k) (b := n) (tgt := 76) F (by omega) (by omega) dX3_isOneOf_44 (by decide) (fun c_44 => ?_) (fun c_44 => ?_)
        · have h9f : ¬ (p + k < n ∧ ar 6 (p + k) = WL.getD (0 + k) 0) := fun h9 => absurd h9.1 (by omega)
          rw [cpl_f h9f] at hfd
          have hl : lv_has ls 6 [(0, .ref m), (1, .ref a), (2, .int (nI 0)), (3, .int (nI 0)), (4, .int (nI 5)), (5, .int (nI (cpw (ar 6) n p 0)))] := by rw [← hfd]; exact hl
          exact kont0 H locs ls hW (lv_sub hl [0, 1, 2, 3, 4, 5] rfl)
        · have hTp := hT (p + k) (by omega)
          have hWp := bts_lt hL (0 + k)
          refine lv_aload_n F.x F.cd dX3_isOneOf_47 rfl (lv_at hl 0 rfl) ?_
          refine s_get F hW (ci := 7) (C := RX3) (T := TX3) (N := 18) (v := .ref (A 6)) (t0_1) rfl in_X3 9 (by decide) q2288 (fun _ h9 => h9) rfl dX3_isOneOf_48 ?_
          refine lv_aload_n F.x F.cd dX3_isOneOf_51 rfl (lv_at hl 0 rfl) ?_
          refine s_get F hW (ci := 7) (C := RX3) (T := TX3) (N := 18) (v := .int (nI p)) (t0_1) rfl in_X3 11 (by decide) q2290 (fun _ h9 => h9) rfl dX3_isOneOf_52 ?_
          refine lv_iload F.x F.cd dX3_isOneOf_55 (lv_at hl 5 rfl) ?_
          refine a_iadd (v := (nI (p + k))) F (nI_add _ _) dX3_isOneOf_57 ?_
          refine n_cald (i := p + k) (n := 60) (f := (fun x9 => nI ((ar 6) x9))) (x := (nI ((ar 6) (p + k)))) F hW (ta6_1) (by omega) (by omega) (rfl) dX3_isOneOf_58 ?_
          refine lv_aload_n F.x F.cd dX3_isOneOf_59 rfl (lv_at hl 1 rfl) ?_
          refine lv_iload_n F.x F.cd dX3_isOneOf_60 rfl (lv_at hl 3 rfl) ?_
          refine lv_iload F.x F.cd dX3_isOneOf_61 (lv_at hl 5 rfl) ?_
          refine a_iadd (v := (nI (0 + k))) F (nI_add _ _) dX3_isOneOf_63 ?_
          refine s_callV (As := [.int (nI (0 + k))]) (rest := [.int (nI ((ar 6) (p + k)))]) (C := RJ7) (T := TJ7) (N := 4) (n := 1) F hW (k_J7_charAt g l σ a WL (0 + k) hs (by omega) (by omega)) (e0) rfl q2742 q1893 q1894 q77 q1895 rfl (by decide +kernel) rfl ⟨⟨Nat.le_of_ble_eq_true rfl, Nat.le_of_ble_eq_true rfl⟩, ⟨(Nat.le_of_ble_eq_true rfl), (Nat.le_of_ble_eq_true rfl)⟩⟩ (Nat.le_of_ble_eq_true rfl) hl.1 rfl dX3_isOneOf_64 cX_no (fun r248 σ248 H locs hp248 hW => ?_)
          obtain ⟨rfl, hs248⟩ := hp248
          rw [hs248] at hW
          refine W.eq (g2 := F0 m_ 67 ls (.int (nI (WL.getD (0 + k) 0)) :: .int (nI ((ar 6) (p + k))) :: [])) rfl ?_
          refine n_icmp_ne (a := (ar 6) (p + k)) (b := WL.getD (0 + k) 0) (tgt := 76) F (by omega) (by omega) dX3_isOneOf_67 (by decide) (fun c_67 => ?_) (fun c_67 => ?_)
          · have h9f : ¬ (p + k < n ∧ ar 6 (p + k) = WL.getD (0 + k) 0) := fun h9 => c_67 h9.2
            rw [cpl_f h9f] at hfd
            have hl : lv_has ls 6 [(0, .ref m), (1, .ref a), (2, .int (nI 0)), (3, .int (nI 0)), (4, .int (nI 5)), (5, .int (nI (cpw (ar 6) n p 0)))] := by rw [← hfd]; exact hl
            exact kont0 H locs ls hW (lv_sub hl [0, 1, 2, 3, 4, 5] rfl)
          · have h9t : p + k < n ∧ ar 6 (p + k) = WL.getD (0 + k) 0 := ⟨by omega, c_67⟩
            refine lv_iinc (k := 5) (v := (nI (k + 1))) (lv' := [(5, .int (nI (k + 1))), (0, .ref m), (1, .ref a), (2, .int (nI 0)), (3, .int (nI 0)), (4, .int (nI 5))]) F.x F.cd dX3_isOneOf_70 hl rfl (inc_nI k 1) (by decide) rfl (fun ls hl => ?_)
            refine lv_goto (tgt := 24) F.x F.cd dX3_isOneOf_73 (by decide) ?_
            exact ih24 (k + 1) (by omega) (by rw [cpl_t h9t] at hfd; exact hfd) (by omega) H locs ls hW (lv_sub hl [1, 2, 3, 4, 5, 0] rfl)
  exact loop24 (5) 0 (by omega) (rfl) (by omega) H locs ls hW (lv_sub hl [4, 5, 3, 2, 1, 0] rfl)
