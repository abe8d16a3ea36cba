/-! ===== StringBuilder ===== -/
set_option maxRecDepth 100000
/-- a StringBuilder at a that holds L, its bytes at v -/
def IsSB (g : Gh) (σ : Sto) (a v : Nat) (L : List Nat) : Prop := ∃ (n : Nat) (f : Nat → Int32) (ml : Int32), σ a = some (.inr (5, [.ref v, .int (nI 0), .int ml, .int (nI L.length)])) ∧ gB g ≤ a ∧ σ v = some (eI g 1 n f) ∧ gB g ≤ v ∧ L.length ≤ n ∧ 0 < n ∧ n ≤ 300 ∧ (∀ x, x < n → fits .byte (.int (f x)) = true) ∧ (∀ x, x < L.length → f x = nI (L.getD x 0)) ∧ ∀ c ∈ L, c < 128
/-- the builder holds L now; nothing else has changed -/
def SBP (g : Gh) (σ σ' : Sto) (a v : Nat) (L : List Nat) : Prop := ∃ v', IsSB g σ' a v' L ∧ (v' = v ∨ σ v' = none) ∧ ∀ x, σ x ≠ none → x ≠ a → x ≠ v → σ' x = σ x
theorem cpy_fit {f : Nat → Int32} {n n' : Nat} (h : ∀ x, x < n → fits .byte (.int (f x)) = true) (hn : n ≤ n') : ∀ x, x < n' → fits .byte (.int (va_cpy f (fun _ => 0) 0 0 n x)) = true := fun x _ => by
  by_cases hx : x < n
  · rw [va_cpy0 hx]; exact h x hx
  · rw [show va_cpy f (fun _ => (0 : Int32)) 0 0 n x = 0 by simp [va_cpy, hx]]; decide
theorem cpy_fx {f : Nat → Int32} {n : Nat} {L : List Nat} (h : ∀ x, x < L.length → f x = nI (L.getD x 0)) (hn : L.length ≤ n) : ∀ x, x < L.length → va_cpy f (fun _ => 0) 0 0 n x = nI (L.getD x 0) := fun x hx => by
  rw [va_cpy0 (by omega)]; exact h x hx
theorem IsSB.put {g : Gh} {σ : Sto} {a v n c : Nat} {L : List Nat} {f : Nat → Int32} {ml : Int32} (e0 : σ a = some (.inr (5, [.ref v, .int (nI 0), .int ml, .int (nI (L.length + 1))]))) (b0 : gB g ≤ a) (ev : σ v = some (eI g 1 n (upd f L.length (nI c)))) (bv : gB g ≤ v) (hn : L.length + 1 ≤ n) (h3 : n ≤ 300) (hft : ∀ x, x < n → fits .byte (.int (f x)) = true) (hfx : ∀ x, x < L.length → f x = nI (L.getD x 0)) (hL : ∀ c ∈ L, c < 128) (hc : c < 128) : IsSB g σ a v (L ++ [c]) := by
  have hl : (L ++ [c]).length = L.length + 1 := by rw [List.length_append]; rfl
  refine ⟨n, _, ml, by rw [hl]; exact e0, b0, ev, bv, by omega, by omega, h3, fun x hx => ?_, fun x hx => ?_, fun z hz => ?_⟩
  · unfold upd
    split
    · exact fit_byte _ hc
    · exact hft x hx
  · unfold upd
    split
    · rename_i e; rw [e, List.getD_eq_getElem?_getD, List.getElem?_append_right (Nat.le_refl _), Nat.sub_self]; rfl
    · rename_i e
      rw [hfx x (by omega), List.getD_eq_getElem?_getD, List.getD_eq_getElem?_getD, List.getElem?_append_left (by omega)]
  · rcases List.mem_append.mp hz with h | h
    · exact hL z h
    · rw [List.mem_singleton.mp h]; exact hc
set_option maxHeartbeats 4000000 in
theorem k_J5_isLatin1 (g : Gh) (l : Launch) (σ : Sto) (a v n c : Nat) (f : Nat → Int32) (ml : Int32) (e0 : σ a = some (.inr (5, [.ref v, .int (nI 0), .int ml, .int (nI c)]))) (b0 : gB g ≤ a) (ev : σ v = some (eI g 1 n f)) (bv : gB g ≤ v) (hft : ∀ x, x < n → fits .byte (.int (f x)) = true) (hn0 : 0 < n) (hn3 : n ≤ 300) : Ct g l yJ5_isLatin1 cJ5_isLatin1 1 (some .boolean) ({ frames := 0, cells := 0, slots := 0, locals := 0 } : Room) [.ref a] σ (fun r σ' => r = some (.int (nI 1)) ∧ σ' = σ) (nox) := by
  refine Ct.body (by decide) (Nat.le_of_ble_eq_true rfl) ?_
  intro p_ e_ s_ m_ args_ below_ meth_ c_ ls H locs Q F hW hl hQ
  have hl : lv_has ls 1 [(0, .ref a)] := hl
  refine s_gets F hW (v := .int (nI 1)) (List.mem_of_getElem? (i := 1) rfl) q216 (fun _ h9 => h9) dJ5_isLatin1_0 ?_
  refine n_if_eq (a := 1) (tgt := 17) F (by omega) dJ5_isLatin1_3 (by decide) (fun c_3 => absurd c_3 (by decide)) (fun c_3 => ?_)
  refine lv_aload_n F.x F.cd dJ5_isLatin1_6 rfl (lv_at hl 0 rfl) ?_
  refine s_get F hW (ci := 5) (C := RJ6) (T := TJ6) (N := 4) (v := .int (nI 0)) (e0) rfl in_J6 1 (by decide) q226 (fun _ h9 => h9) rfl dJ5_isLatin1_7 ?_
  refine n_if_ne (a := 0) (tgt := 17) F (by omega) dJ5_isLatin1_10 (by decide) (fun c_10 => absurd (by decide) c_10) (fun c_10 => ?_)
  refine lv_iconst (v := (nI 1)) F.x F.cd dJ5_isLatin1_13 (by decide) ?_
  refine lv_goto (tgt := 18) F.x F.cd dJ5_isLatin1_14 (by decide) ?_
  subst hQ
  exact s_reti (v := (nI 1)) F hW (by decide) (⟨rfl, rfl⟩) ⟨(Nat.le_of_ble_eq_true rfl), (Nat.le_of_ble_eq_true rfl)⟩ dJ5_isLatin1_18
set_option maxHeartbeats 4000000 in
theorem k_J5_getValue (g : Gh) (l : Launch) (σ : Sto) (a v n c : Nat) (f : Nat → Int32) (ml : Int32) (e0 : σ a = some (.inr (5, [.ref v, .int (nI 0), .int ml, .int (nI c)]))) (b0 : gB g ≤ a) (ev : σ v = some (eI g 1 n f)) (bv : gB g ≤ v) (hft : ∀ x, x < n → fits .byte (.int (f x)) = true) (hn0 : 0 < n) (hn3 : n ≤ 300) : Ct g l yJ5_getValue cJ5_getValue 1 (some (.array .byte)) ({ frames := 0, cells := 0, slots := 0, locals := 0 } : Room) [.ref a] σ (fun r σ' => r = some (.ref v) ∧ σ' = σ) (nox) := by
  refine Ct.body (by decide) (Nat.le_of_ble_eq_true rfl) ?_
  intro p_ e_ s_ m_ args_ below_ meth_ c_ ls H locs Q F hW hl hQ
  have hl : lv_has ls 1 [(0, .ref a)] := hl
  refine lv_aload_n F.x F.cd dJ5_getValue_0 rfl (lv_at hl 0 rfl) ?_
  refine s_get F hW (ci := 5) (C := RJ6) (T := TJ6) (N := 4) (v := .ref v) (e0) rfl in_J6 0 (by decide) q225 (fun _ h9 => h9) rfl dJ5_getValue_1 ?_
  subst hQ
  exact s_reta F hW (Or.inr ⟨_, rfl⟩) (Or.inr ⟨_, rfl⟩) (⟨rfl, rfl⟩) ⟨(Nat.le_of_ble_eq_true rfl), (Nat.le_of_ble_eq_true rfl)⟩ dJ5_getValue_4
set_option maxHeartbeats 4000000 in
theorem k_J5_length (g : Gh) (l : Launch) (σ : Sto) (a v n c : Nat) (f : Nat → Int32) (ml : Int32) (e0 : σ a = some (.inr (5, [.ref v, .int (nI 0), .int ml, .int (nI c)]))) (b0 : gB g ≤ a) (ev : σ v = some (eI g 1 n f)) (bv : gB g ≤ v) (hft : ∀ x, x < n → fits .byte (.int (f x)) = true) (hn0 : 0 < n) (hn3 : n ≤ 300) : Ct g l yJ5_length cJ5_length 1 (some .int) ({ frames := 0, cells := 0, slots := 0, locals := 0 } : Room) [.ref a] σ (fun r σ' => r = some (.int (nI c)) ∧ σ' = σ) (nox) := by
  refine Ct.body (by decide) (Nat.le_of_ble_eq_true rfl) ?_
  intro p_ e_ s_ m_ args_ below_ meth_ c_ ls H locs Q F hW hl hQ
  have hl : lv_has ls 1 [(0, .ref a)] := hl
  refine lv_aload_n F.x F.cd dJ5_length_0 rfl (lv_at hl 0 rfl) ?_
  refine s_get F hW (ci := 5) (C := RJ6) (T := TJ6) (N := 4) (v := .int (nI c)) (e0) rfl in_J6 3 (by decide) q229 (fun _ h9 => h9) rfl dJ5_length_1 ?_
  subst hQ
  exact s_reti (v := (nI c)) F hW rfl (⟨rfl, rfl⟩) ⟨(Nat.le_of_ble_eq_true rfl), (Nat.le_of_ble_eq_true rfl)⟩ dJ5_length_4
set_option maxHeartbeats 4000000 in
theorem k_J6_length (g : Gh) (l : Launch) (σ : Sto) (a v n c : Nat) (f : Nat → Int32) (ml : Int32) (e0 : σ a = some (.inr (5, [.ref v, .int (nI 0), .int ml, .int (nI c)]))) (b0 : gB g ≤ a) (ev : σ v = some (eI g 1 n f)) (bv : gB g ≤ v) (hft : ∀ x, x < n → fits .byte (.int (f x)) = true) (hn0 : 0 < n) (hn3 : n ≤ 300) : Ct g l yJ6_length cJ6_length 1 (some .int) ({ frames := 1, cells := 0, slots := 0, locals := 20 } : Room) [.ref a] σ (fun r σ' => r = some (.int (nI c)) ∧ σ' = σ) (nox) := by
  refine Ct.body (by decide) (Nat.le_of_ble_eq_true rfl) ?_
  intro p_ e_ s_ m_ args_ below_ meth_ c_ ls H locs Q F hW hl hQ
  have hl : lv_has ls 1 [(0, .ref a)] := hl
  refine lv_aload_n F.x F.cd dJ6_length_0 rfl (lv_at hl 0 rfl) ?_
  refine s_callSU (As := []) (rest := []) (C := RJ6) (T := TJ6) (N := 4) (n := 0) F hW (k_J5_length g l σ a v n c f ml (e0) (b0) (ev) (bv) hft (by omega) (by omega)) (e0) rfl q582 q578 q238 q577 q75 q583 (by decide +kernel) rfl ⟨⟨Nat.le_of_ble_eq_true rfl, Nat.le_of_ble_eq_true rfl⟩, ⟨(Nat.le_of_ble_eq_true rfl), (Nat.le_of_ble_eq_true rfl)⟩⟩ (Nat.le_of_ble_eq_true rfl) hl.1 rfl dJ6_length_1 cX_no (fun r1 σ1 H locs hp1 hW => ?_)
  obtain ⟨rfl, hs1⟩ := hp1
  rw [hs1] at hW
  refine W.eq (g2 := F0 m_ 4 ls (.int (nI c) :: [])) rfl ?_
  subst hQ
  exact s_reti (v := (nI c)) F hW rfl (⟨rfl, rfl⟩) ⟨(Nat.le_of_ble_eq_true rfl), (Nat.le_of_ble_eq_true rfl)⟩ dJ6_length_4
set_option maxHeartbeats 4000000 in
theorem k_J5_newCapacity (g : Gh) (l : Launch) (σ : Sto) (a v n c : Nat) (f : Nat → Int32) (ml : Int32) (k : Nat) (e0 : σ a = some (.inr (5, [.ref v, .int (nI 0), .int ml, .int (nI c)]))) (b0 : gB g ≤ a) (ev : σ v = some (eI g 1 n f)) (bv : gB g ≤ v) (hft : ∀ x, x < n → fits .byte (.int (f x)) = true) (hn0 : 0 < n) (hn3 : n ≤ 300) (hk : n < k) (hk2 : k ≤ 140) : Ct g l yJ5_newCapacity cJ5_newCapacity 6 (some .int) ({ frames := 2, cells := 0, slots := 0, locals := 47 } : Room) [.ref a, .int (nI k)] σ (fun r σ' => r = some (.int (nI (n + max (k - n) (n + 2)))) ∧ σ' = σ) (nox) := by
  refine Ct.body (by decide) (Nat.le_of_ble_eq_true rfl) ?_
  intro p_ e_ s_ m_ args_ below_ meth_ c_ ls H locs Q F hW hl hQ
  have hl : lv_has ls 6 [(0, .ref a), (1, .int (nI k))] := hl
  refine lv_aload_n F.x F.cd dJ5_newCapacity_0 rfl (lv_at hl 0 rfl) ?_
  refine s_get F hW (ci := 5) (C := RJ6) (T := TJ6) (N := 4) (v := .ref v) (e0) rfl in_J6 0 (by decide) q225 (fun _ h9 => h9) rfl dJ5_newCapacity_1 ?_
  refine s_alen F hW (ev) 1 rfl (v := nI n) rfl dJ5_newCapacity_4 ?_
  refine lv_istore_n (lv' := [(2, .int (nI n)), (0, .ref a), (1, .int (nI k))]) F.x F.cd dJ5_newCapacity_5 rfl hl (by decide) rfl (fun ls hl => ?_)
  refine lv_iload_n F.x F.cd dJ5_newCapacity_6 rfl (lv_at hl 2 rfl) ?_
  refine lv_aload_n F.x F.cd dJ5_newCapacity_7 rfl (lv_at hl 1 rfl) ?_
  refine s_get F hW (ci := 5) (C := RJ6) (T := TJ6) (N := 4) (v := .int (nI 0)) (e0) rfl in_J6 1 (by decide) q226 (fun _ h9 => h9) rfl dJ5_newCapacity_8 ?_
  refine a_ishl (v := (nI k)) F (ishl0 _) dJ5_newCapacity_11 ?_
  refine lv_istore_n (lv' := [(3, .int (nI k)), (2, .int (nI n)), (0, .ref a), (1, .int (nI k))]) F.x F.cd dJ5_newCapacity_12 rfl hl (by decide) rfl (fun ls hl => ?_)
  refine lv_iload_n F.x F.cd dJ5_newCapacity_13 rfl (lv_at hl 0 rfl) ?_
  refine lv_iload_n F.x F.cd dJ5_newCapacity_14 rfl (lv_at hl 1 rfl) ?_
  refine a_isub (v := (nI (k - n))) F (pk_sub (by omega)) dJ5_newCapacity_15 ?_
  refine lv_istore (lv' := [(4, .int (nI (k - n))), (3, .int (nI k)), (2, .int (nI n)), (0, .ref a), (1, .int (nI k))]) F.x F.cd dJ5_newCapacity_16 hl (by decide) rfl (fun ls hl => ?_)
  refine lv_iload_n F.x F.cd dJ5_newCapacity_18 rfl (lv_at hl 2 rfl) ?_
  refine lv_iload F.x F.cd dJ5_newCapacity_19 (lv_at hl 0 rfl) ?_
  refine lv_iload_n F.x F.cd dJ5_newCapacity_21 rfl (lv_at hl 2 rfl) ?_
  refine lv_iconst (v := (nI 2)) F.x F.cd dJ5_newCapacity_22 (by decide) ?_
  refine lv_aload_n F.x F.cd dJ5_newCapacity_23 rfl (lv_at hl 3 rfl) ?_
  refine s_get F hW (ci := 5) (C := RJ6) (T := TJ6) (N := 4) (v := .int (nI 0)) (e0) rfl in_J6 1 (by decide) q226 (fun _ h9 => h9) rfl dJ5_newCapacity_24 ?_
  refine a_ishl (v := (nI 2)) F (ishl0 _) dJ5_newCapacity_27 ?_
  refine a_iadd (v := (nI (n + 2))) F (nI_add _ _) dJ5_newCapacity_28 ?_
  refine s_callS (As := [.int (nI n), .int (nI (k - n)), .int (nI (n + 2))]) (rest := []) (n := 3) F hW (k_J15_newLength g l σ n (k - n) (n + 2) (by omega) (by omega) (by omega) (by omega)) q431 q432 q86 q433 (by decide +kernel) rfl ⟨⟨Nat.le_of_ble_eq_true rfl, Nat.le_of_ble_eq_true rfl⟩, ⟨(Nat.le_of_ble_eq_true rfl), (Nat.le_of_ble_eq_true rfl)⟩⟩ (Nat.le_of_ble_eq_true rfl) hl.1 rfl dJ5_newCapacity_29 cX_no (fun r1 σ1 H locs hp1 hW => ?_)
  obtain ⟨rfl, hs1⟩ := hp1
  rw [hs1] at hW
  refine W.eq (g2 := F0 m_ 32 ls (.int (nI (n + max (k - n) (n + 2))) :: [])) rfl ?_
  refine lv_istore (lv' := [(5, .int (nI (n + max (k - n) (n + 2)))), (4, .int (nI (k - n))), (3, .int (nI k)), (2, .int (nI n)), (0, .ref a), (1, .int (nI k))]) F.x F.cd dJ5_newCapacity_32 hl (by decide) rfl (fun ls hl => ?_)
  refine lv_iload F.x F.cd dJ5_newCapacity_34 (lv_at hl 0 rfl) ?_
  refine lv_ldc (v := (nI 2147483647)) F.x F.cd F.ow (F.ts _ q441) dJ5_newCapacity_36 ?_
  refine n_icmp_ne (a := n + max (k - n) (n + 2)) (b := 2147483647) (tgt := 51) F (by omega) (by omega) dJ5_newCapacity_38 (by decide) (fun c_38 => ?_) (fun c_38 => ?_)
  · refine lv_iload F.x F.cd dJ5_newCapacity_51 (lv_at hl 0 rfl) ?_
    refine lv_aload_n F.x F.cd dJ5_newCapacity_53 rfl (lv_at hl 4 rfl) ?_
    refine s_get F hW (ci := 5) (C := RJ6) (T := TJ6) (N := 4) (v := .int (nI 0)) (e0) rfl in_J6 1 (by decide) q226 (fun _ h9 => h9) rfl dJ5_newCapacity_54 ?_
    refine a_ishr (v := (nI (n + max (k - n) (n + 2)))) F (ishr0 _) dJ5_newCapacity_57 ?_
    subst hQ
    exact s_reti (v := (nI (n + max (k - n) (n + 2)))) F hW rfl (⟨rfl, rfl⟩) ⟨(Nat.le_of_ble_eq_true rfl), (Nat.le_of_ble_eq_true rfl)⟩ dJ5_newCapacity_58
  · exact absurd c_38 (by omega)
set_option maxHeartbeats 4000000 in
theorem k_J5_ensureCapacityInternal (g : Gh) (l : Launch) (σ : Sto) (a v n c : Nat) (f : Nat → Int32) (ml : Int32) (k : Nat) (e0 : σ a = some (.inr (5, [.ref v, .int (nI 0), .int ml, .int (nI c)]))) (b0 : gB g ≤ a) (ev : σ v = some (eI g 1 n f)) (bv : gB g ≤ v) (hft : ∀ x, x < n → fits .byte (.int (f x)) = true) (hn0 : 0 < n) (hn3 : n ≤ 300) (hk2 : k ≤ 140) : Ct g l yJ5_ensureCapacityInternal cJ5_ensureCapacityInternal 3 none ({ frames := 3, cells := 1, slots := 300, locals := 82 } : Room) [.ref a, .int (nI k)] σ (fun r σ' => r = none ∧ ((k ≤ n ∧ σ' = σ) ∨ (n < k ∧ ∃ q n', σ q = none ∧ gB g ≤ q ∧ k ≤ n' ∧ n ≤ n' ∧ n' ≤ 300 ∧ σ' = sset (sset σ q (eI g 1 n' (va_cpy f (fun _ => 0) 0 0 n))) a (.inr (5, [.ref q, .int (nI 0), .int ml, .int (nI c)]))))) (nox) := by
  refine Ct.body (by decide) (Nat.le_of_ble_eq_true rfl) ?_
  intro p_ e_ s_ m_ args_ below_ meth_ c_ ls H locs Q F hW hl hQ
  have hl : lv_has ls 3 [(0, .ref a), (1, .int (nI k))] := hl
  refine lv_aload_n F.x F.cd dJ5_ensureCapacityInternal_0 rfl (lv_at hl 0 rfl) ?_
  refine s_get F hW (ci := 5) (C := RJ6) (T := TJ6) (N := 4) (v := .ref v) (e0) rfl in_J6 0 (by decide) q225 (fun _ h9 => h9) rfl dJ5_ensureCapacityInternal_1 ?_
  refine s_alen F hW (ev) 1 rfl (v := nI n) rfl dJ5_ensureCapacityInternal_4 ?_
  refine lv_aload_n F.x F.cd dJ5_ensureCapacityInternal_5 rfl (lv_at hl 0 rfl) ?_
  refine s_get F hW (ci := 5) (C := RJ6) (T := TJ6) (N := 4) (v := .int (nI 0)) (e0) rfl in_J6 1 (by decide) q226 (fun _ h9 => h9) rfl dJ5_ensureCapacityInternal_6 ?_
  refine a_ishr (v := (nI n)) F (ishr0 _) dJ5_ensureCapacityInternal_9 ?_
  refine lv_istore_n (lv' := [(2, .int (nI n)), (0, .ref a), (1, .int (nI k))]) F.x F.cd dJ5_ensureCapacityInternal_10 rfl hl (by decide) rfl (fun ls hl => ?_)
  refine lv_iload_n F.x F.cd dJ5_ensureCapacityInternal_11 rfl (lv_at hl 2 rfl) ?_
  refine lv_iload_n F.x F.cd dJ5_ensureCapacityInternal_12 rfl (lv_at hl 0 rfl) ?_
  refine a_isub (v := (nI k - nI n)) F (rfl) dJ5_ensureCapacityInternal_13 ?_
  refine lv_if_le (x := (nI k - nI n)) (tgt := 38) F.x F.cd dJ5_ensureCapacityInternal_14 (by decide) (fun c_14 => ?_) (fun c_14 => ?_)
  · subst hQ
    exact s_retv F hW (⟨rfl, Or.inl ⟨(nsub_le0 (by omega) (by omega)).mp c_14, rfl⟩⟩) ⟨(Nat.le_of_ble_eq_true rfl), (Nat.le_of_ble_eq_true rfl)⟩ dJ5_ensureCapacityInternal_38
  · have hkn : n < k := by have h9 := nsub_le0 (a := k) (b := n) (by omega) (by omega); have h8 : ¬ k ≤ n := fun h7 => c_14 (h9.mpr h7); omega
    refine lv_aload_n F.x F.cd dJ5_ensureCapacityInternal_17 rfl (lv_at hl 1 rfl) ?_
    refine lv_aload_n F.x F.cd dJ5_ensureCapacityInternal_18 rfl (lv_at hl 1 rfl) ?_
    refine s_get F hW (ci := 5) (C := RJ6) (T := TJ6) (N := 4) (v := .ref v) (e0) rfl in_J6 0 (by decide) q225 (fun _ h9 => h9) rfl dJ5_ensureCapacityInternal_19 ?_
    refine lv_aload_n F.x F.cd dJ5_ensureCapacityInternal_22 rfl (lv_at hl 1 rfl) ?_
    refine lv_iload_n F.x F.cd dJ5_ensureCapacityInternal_23 rfl (lv_at hl 2 rfl) ?_
    refine s_callP (x := yJ5_isLatin1) (As := [.int (nI k)]) (rest := [.ref v, .ref a]) (C := RJ6) (T := TJ6) (N := 4) (n := 1) F hW (k_J5_newCapacity g l σ a v n c f ml k (e0) (b0) (ev) (bv) hft (by omega) (by omega) (by omega) (by omega)) (e0) rfl q427 q2818 q461 rfl q428 q429 q75 q430 (by decide +kernel) rfl ⟨⟨Nat.le_of_ble_eq_true rfl, Nat.le_of_ble_eq_true rfl⟩, ⟨(Nat.le_of_ble_eq_true rfl), (Nat.le_of_ble_eq_true rfl)⟩⟩ (Nat.le_of_ble_eq_true rfl) hl.1 rfl dJ5_ensureCapacityInternal_24 cX_no (fun r1 σ1 H locs hp1 hW => ?_)
    obtain ⟨rfl, hs1⟩ := hp1
    rw [hs1] at hW
    refine W.eq (g2 := F0 m_ 27 ls (.int (nI (n + max (k - n) (n + 2))) :: .ref v :: .ref a :: [])) rfl ?_
    refine lv_aload_n F.x F.cd dJ5_ensureCapacityInternal_27 rfl (lv_at hl 1 rfl) ?_
    refine s_get F hW (ci := 5) (C := RJ6) (T := TJ6) (N := 4) (v := .int (nI 0)) (e0) rfl in_J6 1 (by decide) q226 (fun _ h9 => h9) rfl dJ5_ensureCapacityInternal_28 ?_
    refine a_ishl (v := (nI (n + max (k - n) (n + 2)))) F (ishl0 _) dJ5_ensureCapacityInternal_31 ?_
    refine s_callS (As := [.ref v, .int (nI (n + max (k - n) (n + 2)))]) (rest := [.ref a]) (n := 2) F hW (k_J17_copyOf g l σ v n (n + max (k - n) (n + 2)) f (ev) hft (by omega) (by omega)) q442 q443 q88 q444 (by decide +kernel) rfl ⟨⟨Nat.le_of_ble_eq_true rfl, Nat.le_of_ble_eq_true rfl⟩, ⟨(Nat.le_of_ble_eq_true rfl), (Nat.le_of_ble_eq_true rfl)⟩⟩ (Nat.le_of_ble_eq_true rfl) hl.1 rfl dJ5_ensureCapacityInternal_32 cX_no (fun r2 σ2 H locs hp2 hW => ?_)
    obtain ⟨q_2, rfl, hq2, hb_q2, hs2⟩ := hp2
    rw [hs2] at hW
    refine W.eq (g2 := F0 m_ 35 ls (.ref q_2 :: .ref a :: [])) rfl ?_
    obtain ⟨σ3, hσ3⟩ : ∃ z, z = sset σ q_2 (eI g 1 (n + max (k - n) (n + 2)) (va_cpy f (fun _ => 0) 0 0 n)) := ⟨_, rfl⟩
    have hW : Hl g σ3 H locs := by rw [hσ3]; exact hW
    have w3 : σ3 q_2 = some (eI g 1 (n + max (k - n) (n + 2)) (va_cpy f (fun _ => 0) 0 0 n)) := by rw [hσ3]; exact sset_eq
    have f4 : σ3 a = some (.inr (5, [.ref v, .int (nI 0), .int ml, .int (nI c)])) := by rw [hσ3, sset_ne (sto_ne0 hq2 e0)]; exact e0
    have f5 : σ3 v = some (eI g 1 n f) := by rw [hσ3, sset_ne (sto_ne0 hq2 ev)]; exact ev
    refine s_put F hW (ci := 5) (C := RJ6) (T := TJ6) (N := 4) (v := .ref q_2) (ty := (.array .byte)) (f4) (b0) rfl in_J6 tyJ6_ok nmJ6 0 (by decide) q225 (fun _ h9 => h9) rfl (by decide +kernel) rfl rfl (Nat.le_of_ble_eq_true rfl) dJ5_ensureCapacityInternal_35 (fun H locs hW => ?_)
    obtain ⟨σ7, hσ7⟩ : ∃ z, z = sset σ3 a (.inr (5, [.ref q_2, .int (nI 0), .int ml, .int (nI c)])) := ⟨_, rfl⟩
    have hW : Hl g σ7 H locs := by rw [hσ7]; exact hW
    have w7 : σ7 a = some (.inr (5, [.ref q_2, .int (nI 0), .int ml, .int (nI c)])) := by rw [hσ7]; exact sset_eq
    have f8 : σ7 v = some (eI g 1 n f) := by rw [hσ7, sset_ne (sto_ne f4 f5 (by simp))]; exact f5
    have f9 : σ7 q_2 = some (eI g 1 (n + max (k - n) (n + 2)) (va_cpy f (fun _ => 0) 0 0 n)) := by rw [hσ7, sset_ne (Ne.symm (sto_ne0 hq2 e0))]; exact w3
    subst hQ
    exact s_retv F hW (⟨rfl, Or.inr ⟨hkn, q_2, n + max (k - n) (n + 2), hq2, hb_q2, by omega, by omega, by omega, by rw [hσ7, hσ3]⟩⟩) ⟨(Nat.le_of_ble_eq_true rfl), (Nat.le_of_ble_eq_true rfl)⟩ dJ5_ensureCapacityInternal_38
set_option maxHeartbeats 4000000 in
theorem k_J5_append_3 (g : Gh) (l : Launch) (σ : Sto) (a v : Nat) (L : List Nat) (c : Nat) (hs : IsSB g σ a v L) (hc : c < 128) (h100 : L.length < 120) : Ct g l yJ5_append_3 cJ5_append_3 2 (some (.object "java/lang/AbstractStringBuilder")) ({ frames := 4, cells := 1, slots := 300, locals := 104 } : Room) [.ref a, .int (nI c)] σ (fun r σ' => r = some (.ref a) ∧ SBP g σ σ' a v (L ++ [c])) (nox) := by
  refine Ct.body (by decide) (Nat.le_of_ble_eq_true rfl) ?_
  intro p_ e_ s_ m_ args_ below_ meth_ c_ ls H locs Q F hW hl hQ
  have hl : lv_has ls 2 [(0, .ref a), (1, .int (nI c))] := hl
  obtain ⟨n, f, ml, e0, b0, ev, bv, hLn, hn0, hn3, hft, hfx, hL⟩ := id hs
  refine lv_aload_n F.x F.cd dJ5_append_3_0 rfl (lv_at hl 0 rfl) ?_
  refine lv_aload_n F.x F.cd dJ5_append_3_1 rfl (lv_at hl 0 rfl) ?_
  refine s_get F hW (ci := 5) (C := RJ6) (T := TJ6) (N := 4) (v := .int (nI L.length)) (e0) rfl in_J6 3 (by decide) q229 (fun _ h9 => h9) rfl dJ5_append_3_2 ?_
  refine lv_iconst (v := (nI 1)) F.x F.cd dJ5_append_3_5 (by decide) ?_
  refine a_iadd (v := (nI (L.length + 1))) F (nI_add _ _) dJ5_append_3_6 ?_
  refine s_callP (x := yJ5_isLatin1) (As := [.int (nI (L.length + 1))]) (rest := []) (C := RJ6) (T := TJ6) (N := 4) (n := 1) F hW (k_J5_ensureCapacityInternal g l σ a v n L.length f ml (L.length + 1) (e0) (b0) (ev) (bv) hft (by omega) (by omega) (by omega)) (e0) rfl q423 q2817 q461 rfl q424 q425 q75 q426 (by decide +kernel) rfl ⟨⟨Nat.le_of_ble_eq_true rfl, Nat.le_of_ble_eq_true rfl⟩, ⟨(Nat.le_of_ble_eq_true rfl), (Nat.le_of_ble_eq_true rfl)⟩⟩ (Nat.le_of_ble_eq_true rfl) hl.1 rfl dJ5_append_3_7 cX_no (fun r1 σ1 H locs hp1 hW => ?_)
  obtain ⟨rfl, hp1⟩ := hp1; rcases hp1 with ⟨hk1, hs1⟩ | ⟨hl1, q_1, n'1, hq1, hb_q1, hk1, hnn1, hn31, hs1⟩
  · rw [hs1] at hW
    refine W.eq (g2 := F0 m_ 10 ls ([])) rfl ?_
    have hec : L.length + 1 ≤ n := hk1
    refine lv_aload_n F.x F.cd dJ5_append_3_10 rfl (lv_at hl 0 rfl) ?_
    refine s_callU (owner := "java/lang/AbstractStringBuilder") (As := []) (rest := []) (C := RJ6) (T := TJ6) (N := 4) (n := 0) F hW (k_J5_isLatin1 g l σ a v n L.length f ml (e0) (b0) (ev) (bv) hft (by omega) (by omega)) (e0) rfl q458 q460 q461 q459 q75 q462 rfl (by decide +kernel) rfl ⟨⟨Nat.le_of_ble_eq_true rfl, Nat.le_of_ble_eq_true rfl⟩, ⟨(Nat.le_of_ble_eq_true rfl), (Nat.le_of_ble_eq_true rfl)⟩⟩ (Nat.le_of_ble_eq_true rfl) hl.1 rfl dJ5_append_3_11 cX_no (fun r2 σ2 H locs hp2 hW => ?_)
    obtain ⟨rfl, hs2⟩ := hp2
    rw [hs2] at hW
    refine W.eq (g2 := F0 m_ 14 ls (.int (nI 1) :: [])) rfl ?_
    refine n_if_eq (a := 1) (tgt := 45) F (by omega) dJ5_append_3_14 (by decide) (fun c_14 => absurd c_14 (by decide)) (fun c_14 => ?_)
    refine lv_iload_n F.x F.cd dJ5_append_3_17 rfl (lv_at hl 1 rfl) ?_
    refine s_callS (As := [.int (nI c)]) (rest := []) (n := 1) F hW (k_J18_canEncode g l σ c (by omega)) q1839 q1840 q90 q1841 (by decide +kernel) rfl ⟨⟨Nat.le_of_ble_eq_true rfl, Nat.le_of_ble_eq_true rfl⟩, ⟨(Nat.le_of_ble_eq_true rfl), (Nat.le_of_ble_eq_true rfl)⟩⟩ (Nat.le_of_ble_eq_true rfl) hl.1 rfl dJ5_append_3_18 cX_no (fun r3 σ3 H locs hp3 hW => ?_)
    obtain ⟨rfl, hs3⟩ := hp3
    rw [hs3] at hW
    refine W.eq (g2 := F0 m_ 21 ls (.int (nI 1) :: [])) rfl ?_
    refine n_if_eq (a := 1) (tgt := 45) F (by omega) dJ5_append_3_21 (by decide) (fun c_21 => absurd c_21 (by decide)) (fun c_21 => ?_)
    refine lv_aload_n F.x F.cd dJ5_append_3_24 rfl (lv_at hl 0 rfl) ?_
    refine s_get F hW (ci := 5) (C := RJ6) (T := TJ6) (N := 4) (v := .ref v) (e0) rfl in_J6 0 (by decide) q225 (fun _ h9 => h9) rfl dJ5_append_3_25 ?_
    refine lv_aload_n F.x F.cd dJ5_append_3_28 rfl (lv_at hl 0 rfl) ?_
    refine lv_dup F.x F.cd dJ5_append_3_29 rfl ?_
    refine s_get F hW (ci := 5) (C := RJ6) (T := TJ6) (N := 4) (v := .int (nI L.length)) (e0) rfl in_J6 3 (by decide) q229 (fun _ h9 => h9) rfl dJ5_append_3_30 ?_
    refine lv_dup_x1 F.x F.cd dJ5_append_3_33 rfl rfl ?_
    refine lv_iconst (v := (nI 1)) F.x F.cd dJ5_append_3_34 (by decide) ?_
    refine a_iadd (v := (nI (L.length + 1))) F (nI_add _ _) dJ5_append_3_35 ?_
    refine s_put F hW (ci := 5) (C := RJ6) (T := TJ6) (N := 4) (v := .int (nI (L.length + 1))) (ty := .int) (e0) (b0) rfl in_J6 tyJ6_ok nmJ6 3 (by decide) q229 (fun _ h9 => h9) rfl (by decide +kernel) rfl rfl (Nat.le_of_ble_eq_true rfl) dJ5_append_3_36 (fun H locs hW => ?_)
    obtain ⟨σ5, hσ5⟩ : ∃ z, z = sset σ a (.inr (5, [.ref v, .int (nI 0), .int ml, .int (nI (L.length + 1))])) := ⟨_, rfl⟩
    have hW : Hl g σ5 H locs := by rw [hσ5]; exact hW
    have w5 : σ5 a = some (.inr (5, [.ref v, .int (nI 0), .int ml, .int (nI (L.length + 1))])) := by rw [hσ5]; exact sset_eq
    have f6 : σ5 v = some (eI g 1 n f) := by rw [hσ5, sset_ne (sto_ne e0 ev (by simp))]; exact ev
    refine lv_iload_n F.x F.cd dJ5_append_3_39 rfl (lv_at hl 1 rfl) ?_
    refine lv_i2b (v := (nI c)) F.x F.cd dJ5_append_3_40 (i2b_nI _ (by omega)) ?_
    refine n_bast (i := L.length) F hW (f6) (bv) (by omega) (by omega) (nar_byte _ (by omega)) dJ5_append_3_41 (fun H locs hW => ?_)
    obtain ⟨σ7, hσ7⟩ : ∃ z, z = sset σ5 v (eI g 1 n (upd f L.length (nI c))) := ⟨_, rfl⟩
    have hW : Hl g σ7 H locs := by rw [hσ7]; exact hW
    have w7 : σ7 v = some (eI g 1 n (upd f L.length (nI c))) := by rw [hσ7]; exact sset_eq
    have f8 : σ7 a = some (.inr (5, [.ref v, .int (nI 0), .int ml, .int (nI (L.length + 1))])) := by rw [hσ7, sset_ne (sto_ne f6 w5 (by simp))]; exact w5
    refine lv_goto (tgt := 75) F.x F.cd dJ5_append_3_42 (by decide) ?_
    refine lv_aload_n F.x F.cd dJ5_append_3_75 rfl (lv_at hl 0 rfl) ?_
    subst hQ
    exact s_reta F hW (Or.inl ⟨_, rfl⟩) (Or.inr ⟨_, rfl⟩) (⟨rfl, v, IsSB.put f8 (b0) w7 (bv) (by omega) (by omega) hft hfx hL hc, Or.inl rfl, fun x hx h1 h2 => by rw [hσ7, sset_ne h2, hσ5, sset_ne h1]⟩) ⟨(Nat.le_of_ble_eq_true rfl), (Nat.le_of_ble_eq_true rfl)⟩ dJ5_append_3_76
  · rw [hs1] at hW
    refine W.eq (g2 := F0 m_ 10 ls ([])) rfl ?_
    obtain ⟨σ9, hσ9⟩ : ∃ z, z = sset σ q_1 (eI g 1 n'1 (va_cpy f (fun _ => 0) 0 0 n)) := ⟨_, rfl⟩
    have w9 : σ9 q_1 = some (eI g 1 n'1 (va_cpy f (fun _ => 0) 0 0 n)) := by rw [hσ9]; exact sset_eq
    have f10 : σ9 a = some (.inr (5, [.ref v, .int (nI 0), .int ml, .int (nI L.length)])) := by rw [hσ9, sset_ne (sto_ne0 hq1 e0)]; exact e0
    have f11 : σ9 v = some (eI g 1 n f) := by rw [hσ9, sset_ne (sto_ne0 hq1 ev)]; exact ev
    obtain ⟨σ12, hσ12⟩ : ∃ z9, z9 = sset σ9 a (.inr (5, [.ref q_1, .int (nI 0), .int ml, .int (nI L.length)])) := ⟨_, rfl⟩
    have hW : Hl g σ12 H locs := by rw [hσ12, hσ9]; exact hW
    have w13 : σ12 a = some (.inr (5, [.ref q_1, .int (nI 0), .int ml, .int (nI L.length)])) := by rw [hσ12]; exact sset_eq
    have f14 : σ12 v = some (eI g 1 n f) := by rw [hσ12, sset_ne (sto_ne f10 f11 (by simp))]; exact f11
    have f15 : σ12 q_1 = some (eI g 1 n'1 (va_cpy f (fun _ => 0) 0 0 n)) := by rw [hσ12, sset_ne (Ne.symm (sto_ne0 hq1 e0))]; exact w9
    have hec : L.length + 1 ≤ n'1 := hk1
    refine lv_aload_n F.x F.cd dJ5_append_3_10 rfl (lv_at hl 0 rfl) ?_
    refine s_callU (owner := "java/lang/AbstractStringBuilder") (As := []) (rest := []) (C := RJ6) (T := TJ6) (N := 4) (n := 0) F hW (k_J5_isLatin1 g l σ12 a q_1 n'1 L.length (va_cpy f (fun _ => 0) 0 0 n) ml (w13) (b0) (f15) (hb_q1) (cpy_fit hft (by omega)) (by omega) (by omega)) (w13) rfl q458 q460 q461 q459 q75 q462 rfl (by decide +kernel) rfl ⟨⟨Nat.le_of_ble_eq_true rfl, Nat.le_of_ble_eq_true rfl⟩, ⟨(Nat.le_of_ble_eq_true rfl), (Nat.le_of_ble_eq_true rfl)⟩⟩ (Nat.le_of_ble_eq_true rfl) hl.1 rfl dJ5_append_3_11 cX_no (fun r16 σ16 H locs hp16 hW => ?_)
    obtain ⟨rfl, hs16⟩ := hp16
    rw [hs16] at hW
    refine W.eq (g2 := F0 m_ 14 ls (.int (nI 1) :: [])) rfl ?_
    refine n_if_eq (a := 1) (tgt := 45) F (by omega) dJ5_append_3_14 (by decide) (fun c_14 => absurd c_14 (by decide)) (fun c_14 => ?_)
    refine lv_iload_n F.x F.cd dJ5_append_3_17 rfl (lv_at hl 1 rfl) ?_
    refine s_callS (As := [.int (nI c)]) (rest := []) (n := 1) F hW (k_J18_canEncode g l σ12 c (by omega)) q1839 q1840 q90 q1841 (by decide +kernel) rfl ⟨⟨Nat.le_of_ble_eq_true rfl, Nat.le_of_ble_eq_true rfl⟩, ⟨(Nat.le_of_ble_eq_true rfl), (Nat.le_of_ble_eq_true rfl)⟩⟩ (Nat.le_of_ble_eq_true rfl) hl.1 rfl dJ5_append_3_18 cX_no (fun r17 σ17 H locs hp17 hW => ?_)
    obtain ⟨rfl, hs17⟩ := hp17
    rw [hs17] at hW
    refine W.eq (g2 := F0 m_ 21 ls (.int (nI 1) :: [])) rfl ?_
    refine n_if_eq (a := 1) (tgt := 45) F (by omega) dJ5_append_3_21 (by decide) (fun c_21 => absurd c_21 (by decide)) (fun c_21 => ?_)
    refine lv_aload_n F.x F.cd dJ5_append_3_24 rfl (lv_at hl 0 rfl) ?_
    refine s_get F hW (ci := 5) (C := RJ6) (T := TJ6) (N := 4) (v := .ref q_1) (w13) rfl in_J6 0 (by decide) q225 (fun _ h9 => h9) rfl dJ5_append_3_25 ?_
    refine lv_aload_n F.x F.cd dJ5_append_3_28 rfl (lv_at hl 0 rfl) ?_
    refine lv_dup F.x F.cd dJ5_append_3_29 rfl ?_
    refine s_get F hW (ci := 5) (C := RJ6) (T := TJ6) (N := 4) (v := .int (nI L.length)) (w13) rfl in_J6 3 (by decide) q229 (fun _ h9 => h9) rfl dJ5_append_3_30 ?_
    refine lv_dup_x1 F.x F.cd dJ5_append_3_33 rfl rfl ?_
    refine lv_iconst (v := (nI 1)) F.x F.cd dJ5_append_3_34 (by decide) ?_
    refine a_iadd (v := (nI (L.length + 1))) F (nI_add _ _) dJ5_append_3_35 ?_
    refine s_put F hW (ci := 5) (C := RJ6) (T := TJ6) (N := 4) (v := .int (nI (L.length + 1))) (ty := .int) (w13) (b0) rfl in_J6 tyJ6_ok nmJ6 3 (by decide) q229 (fun _ h9 => h9) rfl (by decide +kernel) rfl rfl (Nat.le_of_ble_eq_true rfl) dJ5_append_3_36 (fun H locs hW => ?_)
    obtain ⟨σ19, hσ19⟩ : ∃ z, z = sset σ12 a (.inr (5, [.ref q_1, .int (nI 0), .int ml, .int (nI (L.length + 1))])) := ⟨_, rfl⟩
    have hW : Hl g σ19 H locs := by rw [hσ19]; exact hW
    have w19 : σ19 a = some (.inr (5, [.ref q_1, .int (nI 0), .int ml, .int (nI (L.length + 1))])) := by rw [hσ19]; exact sset_eq
    have f20 : σ19 v = some (eI g 1 n f) := by rw [hσ19, sset_ne (sto_ne w13 f14 (by simp))]; exact f14
    have f21 : σ19 q_1 = some (eI g 1 n'1 (va_cpy f (fun _ => 0) 0 0 n)) := by rw [hσ19, sset_ne (Ne.symm (sto_ne0 hq1 e0))]; exact f15
    refine lv_iload_n F.x F.cd dJ5_append_3_39 rfl (lv_at hl 1 rfl) ?_
    refine lv_i2b (v := (nI c)) F.x F.cd dJ5_append_3_40 (i2b_nI _ (by omega)) ?_
    refine n_bast (i := L.length) F hW (f21) (hb_q1) (by omega) (by omega) (nar_byte _ (by omega)) dJ5_append_3_41 (fun H locs hW => ?_)
    obtain ⟨σ22, hσ22⟩ : ∃ z, z = sset σ19 q_1 (eI g 1 n'1 (upd (va_cpy f (fun _ => 0) 0 0 n) L.length (nI c))) := ⟨_, rfl⟩
    have hW : Hl g σ22 H locs := by rw [hσ22]; exact hW
    have w22 : σ22 q_1 = some (eI g 1 n'1 (upd (va_cpy f (fun _ => 0) 0 0 n) L.length (nI c))) := by rw [hσ22]; exact sset_eq
    have f23 : σ22 a = some (.inr (5, [.ref q_1, .int (nI 0), .int ml, .int (nI (L.length + 1))])) := by rw [hσ22, sset_ne (sto_ne0 hq1 e0)]; exact w19
    have f24 : σ22 v = some (eI g 1 n f) := by rw [hσ22, sset_ne (sto_ne0 hq1 ev)]; exact f20
    refine lv_goto (tgt := 75) F.x F.cd dJ5_append_3_42 (by decide) ?_
    refine lv_aload_n F.x F.cd dJ5_append_3_75 rfl (lv_at hl 0 rfl) ?_
    subst hQ
    exact s_reta F hW (Or.inl ⟨_, rfl⟩) (Or.inr ⟨_, rfl⟩) (⟨rfl, q_1, IsSB.put f23 (b0) w22 (hb_q1) (by omega) (by omega) (cpy_fit hft (by omega)) (cpy_fx hfx (by omega)) hL hc, Or.inr hq1, fun x hx h1 h2 => by rw [hσ22, sset_ne (fun e9 => hx (by rw [e9]; exact hq1)), hσ19, sset_ne h1, hσ12, sset_ne h1, hσ9, sset_ne (fun e9 => hx (by rw [e9]; exact hq1))]⟩) ⟨(Nat.le_of_ble_eq_true rfl), (Nat.le_of_ble_eq_true rfl)⟩ dJ5_append_3_76
