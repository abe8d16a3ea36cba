/-! ===== the twin: plain laws ===== -/
set_option maxRecDepth 100000
theorem va_up_comm {α : Type} {f : Nat → α} {i j : Nat} {x y : α} (h : i ≠ j) : va_up (va_up f i x) j y = va_up (va_up f j y) i x := by
  funext z
  unfold va_up
  by_cases h1 : z = j
  · rw [if_pos h1, if_neg (by omega), if_pos h1]
  · rw [if_neg h1, if_neg h1]
theorem va_up_same {α : Type} {f : Nat → α} {i : Nat} {x : α} (h : f i = x) : va_up f i x = f := by
  funext z
  unfold va_up
  by_cases h1 : z = i
  · rw [if_pos h1, ← h, h1]
  · rw [if_neg h1]
theorem va_up_up {α : Type} {f : Nat → α} {i : Nat} {x y : α} : va_up (va_up f i x) i y = va_up f i y := by
  funext z
  unfold va_up
  by_cases h1 : z = i
  · rw [if_pos h1, if_pos h1]
  · rw [if_neg h1, if_neg h1, if_neg h1]
theorem upW_p {w : Nat → Nat} {a b c d : Nat} (h2 : w 2 = a) (h4 : w 4 = c) (h5 : w 5 = d) : upW w a b c d = va_up w 3 b := by
  unfold upW
  rw [va_up_same h2, va_up_same (f := va_up w 3 b) (by rw [va_up_ne _ _ (by decide)]; exact h4), va_up_same (f := va_up w 3 b) (by rw [va_up_ne _ _ (by decide)]; exact h5)]
theorem upW_d {w : Nat → Nat} {a b c d : Nat} (h2 : w 2 = a) (h3 : w 3 = b) (h5 : w 5 = d) : upW w a b c d = va_up w 4 c := by
  unfold upW
  rw [va_up_same h2, va_up_same h3, va_up_same (f := va_up w 4 c) (by rw [va_up_ne _ _ (by decide)]; exact h5)]
theorem upW_t {w : Nat → Nat} {a : Nat} : upW w a (w 3) (w 4) (w 5) = va_up w 2 a := by
  unfold upW
  rw [va_up_same (f := va_up w 2 a) (va_up_ne _ _ (by decide)), va_up_same (f := va_up w 2 a) (va_up_ne _ _ (by decide)), va_up_same (f := va_up w 2 a) (va_up_ne _ _ (by decide))]
theorem upT_k {v : Nat → Nat} {t c k i : Nat} (h : v (6 + 3 * t) = c) : upT v t c k i = va_up (va_up v (6 + 3 * t + 1) k) (6 + 3 * t + 2) i := by
  unfold upT
  rw [va_up_same h]
/-- what the twin writes when a tank is added -/
theorem tw_tank {v : Nat → Nat} {c : Nat} : va_up (va_up (va_up (va_up v 0 (v 0 + 1)) (6 + 3 * v 0) c) (6 + 3 * v 0 + 1) 0) (6 + 3 * v 0 + 2) 0 = va_up (upT v (v 0) c 0 0) 0 (v 0 + 1) := by
  unfold upT
  rw [va_up_comm (i := 0) (j := 6 + 3 * v 0) (by omega), va_up_comm (i := 0) (j := 6 + 3 * v 0 + 1) (by omega), va_up_comm (i := 0) (j := 6 + 3 * v 0 + 2) (by omega)]
theorem tw_pipe {v : Nat → Nat} {a b m q x : Nat} : va_up (va_up (va_up (va_up (va_up (va_up (va_up (va_up v 1 x) (30 + 7 * q) a) (30 + 7 * q + 1) b) (30 + 7 * q + 2) m) (30 + 7 * q + 3) 0) (30 + 7 * q + 4) 0) (30 + 7 * q + 5) 0) (30 + 7 * q + 6) 0 = va_up (upP v q a b m 0 0 0 0) 1 x := by
  unfold upP
  rw [va_up_comm (i := 1) (j := 30 + 7 * q) (by omega), va_up_comm (i := 1) (j := 30 + 7 * q + 1) (by omega), va_up_comm (i := 1) (j := 30 + 7 * q + 2) (by omega), va_up_comm (i := 1) (j := 30 + 7 * q + 3) (by omega), va_up_comm (i := 1) (j := 30 + 7 * q + 4) (by omega), va_up_comm (i := 1) (j := 30 + 7 * q + 5) (by omega), va_up_comm (i := 1) (j := 30 + 7 * q + 6) (by omega)]
theorem tw_pour {v : Nat → Nat} {t x s : Nat} : va_up (va_up (va_up v (6 + 3 * t + 1) (tK v t + x)) (6 + 3 * t + 2) (tI v t ||| s)) 3 (v 3 + x) = pourV v t x s := by
  unfold pourV
  rw [upT_k rfl]
  refine (upW_p ?_ ?_ ?_).symm
  · rw [va_up_ne _ _ (by omega), va_up_ne _ _ (by omega)]
  · rw [va_up_ne _ _ (by omega), va_up_ne _ _ (by omega)]
  · rw [va_up_ne _ _ (by omega), va_up_ne _ _ (by omega)]
theorem tw_draw0 {v : Nat → Nat} {t x : Nat} (h : tK v t - x = 0) : va_up (va_up (va_up v (6 + 3 * t + 1) (tK v t - x)) (6 + 3 * t + 2) 0) 4 (v 4 + x) = drawV v t x := by
  unfold drawV
  rw [if_pos h, upT_k rfl]
  refine (upW_d ?_ ?_ ?_).symm
  · rw [va_up_ne _ _ (by omega), va_up_ne _ _ (by omega)]
  · rw [va_up_ne _ _ (by omega), va_up_ne _ _ (by omega)]
  · rw [va_up_ne _ _ (by omega), va_up_ne _ _ (by omega)]
theorem tw_draw1 {v : Nat → Nat} {t x : Nat} (h : ¬ tK v t - x = 0) : va_up (va_up v (6 + 3 * t + 1) (tK v t - x)) 4 (v 4 + x) = drawV v t x := by
  unfold drawV
  rw [if_neg h, upT_k rfl, va_up_same (f := va_up v (6 + 3 * t + 1) (tK v t - x)) (i := 6 + 3 * t + 2) (va_up_ne _ _ (by omega))]
  refine (upW_d ?_ ?_ ?_).symm
  · rw [va_up_ne _ _ (by omega)]
  · rw [va_up_ne _ _ (by omega)]
  · rw [va_up_ne _ _ (by omega)]
theorem upP_s {v : Nat → Nat} {q x : Nat} : upP v q (pA v q) (pB v q) (pM v q) x (pR v q) (pD v q) (pL v q) = va_up v (30 + 7 * q + 3) x := by
  unfold upP
  rw [va_up_same (i := 30 + 7 * q) rfl, va_up_same (i := 30 + 7 * q + 1) rfl, va_up_same (i := 30 + 7 * q + 2) rfl, va_up_same (f := va_up v (30 + 7 * q + 3) x) (va_up_ne _ _ (by omega)), va_up_same (f := va_up v (30 + 7 * q + 3) x) (va_up_ne _ _ (by omega)), va_up_same (f := va_up v (30 + 7 * q + 3) x) (va_up_ne _ _ (by omega))]
theorem upP_r {v : Nat → Nat} {q x : Nat} : upP v q (pA v q) (pB v q) (pM v q) (pV v q) x (pD v q) (pL v q) = va_up v (30 + 7 * q + 4) x := by
  unfold upP
  rw [va_up_same (i := 30 + 7 * q) rfl, va_up_same (i := 30 + 7 * q + 1) rfl, va_up_same (i := 30 + 7 * q + 2) rfl, va_up_same (i := 30 + 7 * q + 3) rfl, va_up_same (f := va_up v (30 + 7 * q + 4) x) (va_up_ne _ _ (by omega)), va_up_same (f := va_up v (30 + 7 * q + 4) x) (va_up_ne _ _ (by omega))]
theorem upP_d {v : Nat → Nat} {q x : Nat} : upP v q (pA v q) (pB v q) (pM v q) (pV v q) (pR v q) x (pL v q) = va_up v (30 + 7 * q + 5) x := by
  unfold upP
  rw [va_up_same (i := 30 + 7 * q) rfl, va_up_same (i := 30 + 7 * q + 1) rfl, va_up_same (i := 30 + 7 * q + 2) rfl, va_up_same (i := 30 + 7 * q + 3) rfl, va_up_same (i := 30 + 7 * q + 4) rfl, va_up_same (f := va_up v (30 + 7 * q + 5) x) (va_up_ne _ _ (by omega))]
/-- the three setters of a pipe, as the twin's one -/
def setsR (v : Nat → Nat) (q : Int32) (w : Nat) (x : Int32) (mo : Nat) : Res := if inN q (v 1) = true then if btw x (nI 0) (nI mo) = true then .ok (nI (v (30 + 7 * cl q + w)), va_up v (30 + 7 * cl q + w) (cl x)) else .error "argument" else .error "index"
theorem setsR_v {v : Nat → Nat} {q x : Int32} : setsR v q 3 x 4 = valveR v q x := by
  unfold setsR valveR
  rw [upP_s]
theorem setsR_l {v : Nat → Nat} {q x : Int32} : setsR v q 4 x 9 = leakR v q x := by
  unfold setsR leakR
  rw [upP_r]
theorem setsR_c {v : Nat → Nat} {q : Int32} : setsR v q 5 (nI 0) 0 = cleanR v q := by
  unfold setsR cleanR
  rw [upP_d, if_pos (show btw (nI 0) (nI 0) (nI 0) = true by decide), cl_nI (by decide)]
theorem flowsN_z {v : Nat → Nat} : va_up v 2 (v 2 + 1) = flowsN v 0 := upW_t.symm
/-- the same value -/
theorem v_ext {v w : Nat → Nat} (h0 : ∀ j, j < 6 → v j = w j) (hT : ∀ t, t < 8 → tC v t = tC w t ∧ tK v t = tK w t ∧ tI v t = tI w t) (hP : ∀ q, pA v q = pA w q ∧ pB v q = pB w q ∧ pM v q = pM w q ∧ pV v q = pV w q ∧ pR v q = pR w q ∧ pD v q = pD w q ∧ pL v q = pL w q) : v = w := by
  funext j
  by_cases h6 : j < 6
  · exact h0 j h6
  · by_cases h30 : j < 30
    · obtain ⟨a, b, c⟩ := hT ((j - 6) / 3) (by omega)
      rcases (show j = 6 + 3 * ((j - 6) / 3) ∨ j = 6 + 3 * ((j - 6) / 3) + 1 ∨ j = 6 + 3 * ((j - 6) / 3) + 2 by omega) with e | e | e
      · rw [e]; exact a
      · rw [e]; exact b
      · rw [e]; exact c
    · obtain ⟨x1, x2, x3, x4, x5, x6, x7⟩ := hP ((j - 30) / 7)
      rcases (show j = 30 + 7 * ((j - 30) / 7) ∨ j = 30 + 7 * ((j - 30) / 7) + 1 ∨ j = 30 + 7 * ((j - 30) / 7) + 2 ∨ j = 30 + 7 * ((j - 30) / 7) + 3 ∨ j = 30 + 7 * ((j - 30) / 7) + 4 ∨ j = 30 + 7 * ((j - 30) / 7) + 5 ∨ j = 30 + 7 * ((j - 30) / 7) + 6 by omega) with e | e | e | e | e | e | e
      · rw [e]; exact x1
      · rw [e]; exact x2
      · rw [e]; exact x3
      · rw [e]; exact x4
      · rw [e]; exact x5
      · rw [e]; exact x6
      · rw [e]; exact x7
/-- what the twin writes in a flow -/
def twF (v : Nat → Nat) (q x a b : Nat) : Nat → Nat := va_up (va_up (va_up (va_up v (6 + 3 * a + 1) (tK v a - x)) (6 + 3 * b + 1) (tK v b + (x - min x (pR v q)))) 5 (v 5 + min x (pR v q))) (30 + 7 * q + 6) (pL v q + x)
theorem twF_ne {v : Nat → Nat} {q x a b j : Nat} (h1 : j ≠ 6 + 3 * a + 1) (h2 : j ≠ 6 + 3 * b + 1) (h3 : j ≠ 5) (h4 : j ≠ 30 + 7 * q + 6) : twF v q x a b j = v j := by
  rw [twF, va_up_ne _ _ h4, va_up_ne _ _ h3, va_up_ne _ _ h2, va_up_ne _ _ h1]
def twG (v : Nat → Nat) (q x a b : Nat) : Nat → Nat := if min x (pR v q) < x then va_up (twF v q x a b) (6 + 3 * b + 2) (tI v b ||| clr (tI v a) (pM v q)) else twF v q x a b
theorem twG_ne {v : Nat → Nat} {q x a b j : Nat} (h1 : j ≠ 6 + 3 * a + 1) (h2 : j ≠ 6 + 3 * b + 1) (h3 : j ≠ 5) (h4 : j ≠ 30 + 7 * q + 6) (h5 : j ≠ 6 + 3 * b + 2) : twG v q x a b j = v j := by
  unfold twG
  split
  · rw [va_up_ne _ _ h5, twF_ne h1 h2 h3 h4]
  · exact twF_ne h1 h2 h3 h4
theorem tw_flow {v : Nat → Nat} {q x a b : Nat} (ha : srcv v q = a) (hb : dstv v q = b) (ha8 : a < 8) (hb8 : b < 8) (hne : a ≠ b) : va_up (twG v q x a b) (30 + 7 * q + 5) (min 20 (pD v q + pops (tI v a &&& pM v q))) = flowv v q x := by
  refine v_ext (fun j hj => ?_) (fun t ht => ?_) (fun p => ?_)
  · rw [va_up_ne _ _ (by omega)]
    obtain ⟨w2, w3, w4, w5⟩ := flowv_W (v := v) (q := q) (x := x)
    by_cases h5 : j = 5
    · subst h5
      rw [w5]
      unfold twG
      split
      · rw [va_up_ne _ _ (by omega), twF, va_up_ne _ _ (by omega), va_up_self]
      · rw [twF, va_up_ne _ _ (by omega), va_up_self]
    · rw [twG_ne (by omega) (by omega) h5 (by omega) (by omega)]
      rcases (show j < 2 ∨ j = 2 ∨ j = 3 ∨ j = 4 by omega) with h | rfl | rfl | rfl
      · exact (flowv_0 h).symm
      · exact w2.symm
      · exact w3.symm
      · exact w4.symm
  · obtain ⟨x1, x2, x3⟩ := flowv_T (v := v) (q := q) (x := x) ht (by rw [ha, hb]; exact hne)
    have f : ∀ i, i < 3 → va_up (twG v q x a b) (30 + 7 * q + 5) (min 20 (pD v q + pops (tI v a &&& pM v q))) (6 + 3 * t + i) = twG v q x a b (6 + 3 * t + i) := fun i hi => va_up_ne _ _ (by omega)
    rw [x1, x2, x3, ha, hb]
    refine ⟨(f 0 (by omega)).trans ?_, (f 1 (by omega)).trans ?_, (f 2 (by omega)).trans ?_⟩
    · exact twG_ne (by omega) (by omega) (by omega) (by omega) (by omega)
    · have e : twG v q x a b (6 + 3 * t + 1) = twF v q x a b (6 + 3 * t + 1) := by
        unfold twG
        split
        · rw [va_up_ne _ _ (by omega)]
        · rfl
      rw [e, twF, va_up_ne _ _ (by omega), va_up_ne _ _ (by omega)]
      by_cases h1 : t = a
      · subst h1
        rw [va_up_ne _ _ (by omega), va_up_self, if_pos rfl]
      · rw [if_neg h1]
        by_cases h2 : t = b
        · subst h2
          rw [va_up_self, if_pos rfl]
        · rw [va_up_ne _ _ (by omega), va_up_ne _ _ (by omega), if_neg h2]
    · by_cases h2 : t = b
      · subst h2
        unfold twG
        by_cases hx : min x (pR v q) < x
        · rw [if_pos hx, va_up_self, if_pos ⟨rfl, hx⟩]
        · rw [if_neg hx, if_neg (fun h => hx h.2)]
          exact twF_ne (by omega) (by omega) (by omega) (by omega)
      · rw [if_neg (fun h => h2 h.1)]
        exact twG_ne (by omega) (by omega) (by omega) (by omega) (by omega)
  · by_cases h : p = q
    · subst h
      obtain ⟨y1, y2, y3, y4, y5, y6, y7⟩ := flowv_Q (v := v) (q := p) (x := x)
      rw [y1, y2, y3, y4, y5, y6, y7, ha]
      refine ⟨?_, ?_, ?_, ?_, ?_, va_up_self _ _ _, ?_⟩
      · rw [pA, va_up_ne _ _ (by omega)]; exact twG_ne (by omega) (by omega) (by omega) (by omega) (by omega)
      · rw [pB, va_up_ne _ _ (by omega)]; exact twG_ne (by omega) (by omega) (by omega) (by omega) (by omega)
      · rw [pM, va_up_ne _ _ (by omega)]; exact twG_ne (by omega) (by omega) (by omega) (by omega) (by omega)
      · rw [pV, va_up_ne _ _ (by omega)]; exact twG_ne (by omega) (by omega) (by omega) (by omega) (by omega)
      · rw [pR, va_up_ne _ _ (by omega)]; exact twG_ne (by omega) (by omega) (by omega) (by omega) (by omega)
      · rw [pL, va_up_ne _ _ (by omega)]
        unfold twG
        split
        · rw [va_up_ne _ _ (by omega), twF, va_up_self]
        · rw [twF, va_up_self]
    · obtain ⟨y1, y2, y3, y4, y5, y6, y7⟩ := flowv_P (v := v) (q := q) (x := x) (j := p) (by rw [ha]; exact ha8) (by rw [hb]; exact hb8) h
      rw [y1, y2, y3, y4, y5, y6, y7]
      have e : ∀ i, i < 7 → va_up (twG v q x a b) (30 + 7 * q + 5) (min 20 (pD v q + pops (tI v a &&& pM v q))) (30 + 7 * p + i) = v (30 + 7 * p + i) := fun i hi => by
        rw [va_up_ne _ _ (by omega)]
        exact twG_ne (by omega) (by omega) (by omega) (by omega) (by omega)
      exact ⟨e 0 (by omega), e 1 (by omega), e 2 (by omega), e 3 (by omega), e 4 (by omega), e 5 (by omega), e 6 (by omega)⟩
/-- how much flows in the first n turns -/
def flN (v : Nat → Nat) : Nat → Nat
  | 0 => 0
  | n + 1 => flN v n + lit (flowsN v n) n
theorem flN_le {v : Nat → Nat} (h : Inv v) : ∀ n, n ≤ v 1 → flN v n ≤ 20 * n
  | 0, _ => Nat.le_refl _
  | n + 1, hn => by
    have h1 := flN_le h n (by omega)
    have h2 := lit_le (inv_flowsN h n (by omega)) (q := n) (by rw [flowsN_0 (by omega)]; omega)
    rw [flN]
    omega
theorem lits_0 {v : Nat → Nat} {q : Nat} (h : Inv v) (hq : q < v 1) : lits v q = 0 ↔ lit v q = 0 := by
  have hl := lit_le h hq
  unfold lits
  split
  · exact n_eq0 (by omega)
  · rw [show -nI (lit v q) = nI 0 - nI (lit v q) by rw [nI_0, Int32.zero_sub], nsub_eq0 (by decide) (by omega)]
    exact eq_comm
theorem lits_nil {v : Nat → Nat} {q : Nat} (h : opv v q = false) : lits v q = nI 0 := by
  unfold lits
  rw [lit_0 h]
  split <;> rfl
theorem n_absf {a b : Nat} (ha : a < 2 ^ 30) (hb : b < 2 ^ 30) (h : b < a) : (if 0 ≤ nI a - nI b then nI a - nI b else 0 - (nI a - nI b)) = nI (a - b) := by
  rw [pk_sub (by omega)]
  exact if_pos (nI_pos' (by omega))
theorem n_absb {a b : Nat} (ha : a < 2 ^ 30) (hb : b < 2 ^ 30) (h : ¬ b < a) : (if 0 ≤ nI a - nI b then nI a - nI b else 0 - (nI a - nI b)) = nI (b - a) := by
  by_cases e : a = b
  · subst e
    rw [pk_sub (by omega)]
    exact if_pos (nI_pos' (by omega))
  · have h1 : ¬ 0 ≤ nI a - nI b := by
      rw [Int32.le_iff_toInt_le, nsub_toInt ha hb, Int32.toInt_zero]
      omega
    rw [if_neg h1, Int32.zero_sub, Int32.neg_sub, pk_sub (by omega)]
theorem n_absn {a : Nat} (ha : a < 2 ^ 30) : (if 0 ≤ -nI a then -nI a else 0 - -nI a) = nI a := by
  by_cases h : 0 ≤ -nI a
  · have e : a = 0 := by
      have e1 : -nI a = nI 0 - nI a := by rw [nI_0, Int32.zero_sub]
      rw [e1, Int32.le_iff_toInt_le, nsub_toInt (by decide) ha, Int32.toInt_zero] at h
      omega
    subst e
    rfl
  · rw [if_neg h, Int32.zero_sub, Int32.neg_neg]
theorem n_neg_le {a : Nat} (ha : a < 2 ^ 30) : -nI a ≤ 0 := by
  rw [Int32.le_iff_toInt_le, show -nI a = nI 0 - nI a by rw [nI_0, Int32.zero_sub], nsub_toInt (by decide) ha, Int32.toInt_zero]
  omega
def bc1 (x : Int32) : Int32 := x - (((Int32.toUInt32 x >>> (Int32.toUInt32 (nI 1) &&& Int32.toUInt32 31)).toInt32) &&& nI 1431655765)
def bc2 (x : Int32) : Int32 := (bc1 x &&& nI 858993459) + (((Int32.toUInt32 (bc1 x) >>> (Int32.toUInt32 (nI 2) &&& Int32.toUInt32 31)).toInt32) &&& nI 858993459)
def bc3 (x : Int32) : Int32 := (bc2 x + ((Int32.toUInt32 (bc2 x) >>> (Int32.toUInt32 (nI 4) &&& Int32.toUInt32 31)).toInt32)) &&& nI 252645135
def bc4 (x : Int32) : Int32 := bc3 x + ((Int32.toUInt32 (bc3 x) >>> (Int32.toUInt32 (nI 8) &&& Int32.toUInt32 31)).toInt32)
def bc5 (x : Int32) : Int32 := bc4 x + ((Int32.toUInt32 (bc4 x) >>> (Int32.toUInt32 (nI 16) &&& Int32.toUInt32 31)).toInt32)
def bcI (x : Int32) : Int32 := bc5 x &&& nI 63
theorem bcI_nI : ∀ n, n < 256 → bcI (nI n) = nI (pops n) := by decide +kernel
/-- what a command of the twin answers and leaves -/
def TC (g : Gh) (σ : Sto) (m : Nat) (A : Nat → Nat) (iv : Nat → Int32) (wd : Nat) (ar : Nat → Nat → Nat) (rb : Nat → Bool) (R : Res) (en : String → Nat) (r : Option Value) (σ' : Sto) : Prop :=
  Fm σ σ' m A ∧ ((∃ z v', R = .ok (z, v') ∧ r = some (.int (nI 0)) ∧ IsTw g σ' m A (va_up iv 16 z) wd (va_up ar 0 v') rb) ∨ ∃ tx, R = .error tx ∧ r = some (.int (nI (en tx))) ∧ IsTw g σ' m A iv wd ar rb)
/-- the numbers of the failures -/
def en2 (tx : String) : Nat := if tx = "argument" then 1 else 2
def en3 (tx : String) : Nat := if tx = "index" then 1 else if tx = "argument" then 2 else 3
theorem TC.ok {g : Gh} {σ σ' : Sto} {m : Nat} {A : Nat → Nat} {iv : Nat → Int32} {wd : Nat} {ar : Nat → Nat → Nat} {rb : Nat → Bool} {R : Res} {en : String → Nat} {z : Int32} {v' : Nat → Nat} (h : R = .ok (z, v')) (h1 : IsTw g σ' m A (va_up iv 16 z) wd (va_up ar 0 v') rb) (hF : Fm σ σ' m A) : TC g σ m A iv wd ar rb R en (some (.int (nI 0))) σ' := ⟨hF, Or.inl ⟨z, v', h, rfl, h1⟩⟩
theorem TC.err {g : Gh} {σ σ' : Sto} {m : Nat} {A : Nat → Nat} {iv : Nat → Int32} {wd : Nat} {ar : Nat → Nat → Nat} {rb : Nat → Bool} {R : Res} {en : String → Nat} {n : Nat} (tx : String) (h : R = .error tx) (hn : n = en tx) (h1 : IsTw g σ' m A iv wd ar rb) (hF : Fm σ σ' m A) : TC g σ m A iv wd ar rb R en (some (.int (nI n))) σ' := ⟨hF, Or.inr ⟨tx, h, by rw [hn], h1⟩⟩
theorem en2_bd (tx : String) : 0 < en2 tx ∧ en2 tx < 4 := by
  unfold en2
  split <;> decide
theorem en3_bd (tx : String) : 0 < en3 tx ∧ en3 tx < 4 := by
  unfold en3
  split
  · decide
  · split <;> decide
/-- the changes kept, a change more -/
def kp2 (ar : Nat → Nat → Nat) (u : Nat) : Nat → Nat := cpT (ar 0) (if u = 8 then shT (ar 2) 798 else ar 2) (114 * min u 7) 114
/-- what a public command of the twin answers and leaves -/
def TP (g : Gh) (σ : Sto) (m : Nat) (A : Nat → Nat) (iv : Nat → Int32) (wd : Nat) (ar : Nat → Nat → Nat) (rb : Nat → Bool) (u : Nat) (R : Res) (en : String → Nat) (r : Option Value) (σ' : Sto) : Prop :=
  Fm σ σ' m A ∧ ((∃ z v', R = .ok (z, v') ∧ r = some (.int z) ∧ IsTw g σ' m A (va_up (va_up (va_up iv 3 (nI (min u 7 + 1))) 16 z) 17 (nI 0)) wd (va_up (va_up (va_up ar 0 v') 1 (ar 0)) 2 (kp2 ar u)) rb) ∨ ∃ tx, R = .error tx ∧ r = some (.int (nI 0)) ∧ IsTw g σ' m A (va_up iv 17 (nI (en tx))) wd (va_up ar 1 (ar 0)) rb)
/-- minutes until still, as the twin looks -/
def msg (v : Nat → Nat) (k : Nat) : Nat → Int32
  | 0 => -1
  | n + 1 => if stillN (mins v k) (mins v k 1) = true then nI k else msg v (k + 1) n
theorem msg_eq {v : Nat → Nat} : ∀ n k, msg v k (n + 1) = msf v k n
  | 0, k => rfl
  | n + 1, k => by
    show (if stillN (mins v k) (mins v k 1) = true then nI k else msg v (k + 1) (n + 1)) = (if stillN (mins v k) (mins v k 1) = true then nI k else msf v (k + 1) n)
    rw [msg_eq n (k + 1)]
theorem lit_time {v : Nat → Nat} {q : Nat} : lit (flowsN v 0) q = lit v q := by
  have e : ∀ j, 6 ≤ j → flowsN v 0 j = v j := fun j hj => upW_lo (by omega)
  have eC : ∀ t, tC (flowsN v 0) t = tC v t := fun t => e _ (by omega)
  have eK : ∀ t, tK (flowsN v 0) t = tK v t := fun t => e _ (by omega)
  have a : pA (flowsN v 0) q = pA v q := e _ (by omega)
  have b : pB (flowsN v 0) q = pB v q := e _ (by omega)
  have c : pV (flowsN v 0) q = pV v q := e _ (by omega)
  have d : pD (flowsN v 0) q = pD v q := e _ (by omega)
  unfold lit opv srcv dstv
  rw [a, b, c, d]
  simp only [eC, eK]
/-- all still: nothing flows, nothing but the time changes -/
theorem still_fl {v : Nat → Nat} (h : Inv v) : ∀ n, n ≤ v 1 → (stillN v n = true → flN v n = 0 ∧ flowsN v n = flowsN v 0) ∧ (stillN v n = false → 0 < flN v n)
  | 0, _ => ⟨fun _ => ⟨rfl, rfl⟩, (fun h => nomatch h)⟩
  | n + 1, hn => by
    obtain ⟨h1, h2⟩ := still_fl h n (by omega)
    have hp := h.pp (q := n) (by omega)
    have h8 := h.1
    rw [stillN, flN]
    cases e : stillN v n with
    | false => exact ⟨(fun h => nomatch h), fun _ => by have := h2 e; omega⟩
    | true =>
      obtain ⟨h3, h4⟩ := h1 e
      rw [h4, lit_time, h3]
      refine ⟨fun h5 => ?_, fun h5 => ?_⟩
      · have h6 : lit v n = 0 := by simpa using h5
        refine ⟨by rw [h6], ?_⟩
        show (if 0 < lit (flowsN v n) n then flowv (flowsN v n) n (lit (flowsN v n) n) else flowsN v n) = flowsN v 0
        rw [h4, if_neg (by rw [lit_time]; omega)]
      · have h6 : ¬ lit v n = 0 := by simpa using h5
        omega
theorem flow_still {v : Nat → Nat} (h : Inv v) : (flN v (v 1) = 0 ↔ stillN v (v 1) = true) := by
  obtain ⟨h1, h2⟩ := still_fl h (v 1) (Nat.le_refl _)
  cases e : stillN v (v 1) with
  | true => exact ⟨fun _ => rfl, fun _ => (h1 e).1⟩
  | false => exact ⟨fun h => absurd (h2 e) (by omega), fun h => nomatch h⟩
