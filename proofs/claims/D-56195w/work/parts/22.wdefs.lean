/-! ===== the waterworks: a value v (the reference's array of 114 naturals), the objects that hold it ===== -/
set_option maxRecDepth 100000
def btw (a b c : Int32) : Bool := decide (b ≤ a ∧ a ≤ c)
def inN (p : Int32) (n : Nat) : Bool := btw p (nI 0) (nI n - nI 1)
theorem inN_iff {p : Int32} {n : Nat} (hn : n < 2 ^ 30) : inN p n = true ↔ ∃ i, i < n ∧ p = nI i := by
  unfold inN btw
  rw [decide_eq_true_eq, nI_0]
  have h1 : (nI n - nI 1).toInt = (n : Int) - 1 := nsub_toInt hn (by decide)
  rw [Int32.le_iff_toInt_le, Int32.le_iff_toInt_le, h1, Int32.toInt_zero]
  constructor
  · intro ⟨h2, h3⟩
    obtain ⟨j, hj, e⟩ := nI_of (x := p) (by rw [Int32.lt_iff_toInt_lt, Int32.toInt_zero]; omega)
    refine ⟨j, ?_, e⟩
    rw [e, nI_toInt hj] at h3
    omega
  · rintro ⟨i, hi, rfl⟩
    rw [nI_toInt (by omega)]
    omega
theorem inN_nI {i n : Nat} (hn : n < 2 ^ 30) (hi : i < 2 ^ 31) : inN (nI i) n = decide (i < n) := by
  by_cases h : i < n
  · rw [decide_eq_true h]
    exact (inN_iff hn).mpr ⟨i, h, rfl⟩
  · rw [decide_eq_false h]
    cases e : inN (nI i) n with
    | false => rfl
    | true =>
      obtain ⟨j, hj, e2⟩ := (inN_iff hn).mp e
      have := (nI_eq hi (by omega)).mp e2
      omega
/-- of a tank: capacity, content, impurities; of a pipe: first, second, mesh, setting, rate, dirt, litres -/
abbrev tC (v : Nat → Nat) (t : Nat) : Nat := v (6 + 3 * t)
abbrev tK (v : Nat → Nat) (t : Nat) : Nat := v (6 + 3 * t + 1)
abbrev tI (v : Nat → Nat) (t : Nat) : Nat := v (6 + 3 * t + 2)
abbrev pA (v : Nat → Nat) (q : Nat) : Nat := v (30 + 7 * q)
abbrev pB (v : Nat → Nat) (q : Nat) : Nat := v (30 + 7 * q + 1)
abbrev pM (v : Nat → Nat) (q : Nat) : Nat := v (30 + 7 * q + 2)
abbrev pV (v : Nat → Nat) (q : Nat) : Nat := v (30 + 7 * q + 3)
abbrev pR (v : Nat → Nat) (q : Nat) : Nat := v (30 + 7 * q + 4)
abbrev pD (v : Nat → Nat) (q : Nat) : Nat := v (30 + 7 * q + 5)
abbrev pL (v : Nat → Nat) (q : Nat) : Nat := v (30 + 7 * q + 6)
abbrev tanE (v : Nat → Nat) (t : Nat) : va_E := oTank (tC v t) (tK v t) (tI v t)
abbrev pipE (v : Nat → Nat) (q : Nat) : va_E := oPipe (pA v q) (pB v q) (pM v q) (pV v q) (pR v q) (pD v q) (pL v q)
abbrev wrkE (L v : Nat → Nat) : va_E := .inr (1, [.ref (L 1), .ref (L 2), .int (nI (v 2)), .int (nI (v 3)), .int (nI (v 4)), .int (nI (v 5))])
/-- the Works at L 0: its lists L 1, L 2 (their arrays L 3, L 4), tanks at L (10 + t), pipes at L (100 + q) -/
def IsWorks (g : Gh) (σ : Sto) (L v : Nat → Nat) : Prop :=
  σ (L 0) = some (wrkE L v) ∧ gB g ≤ L 0 ∧ IsList g σ (L 1) (L 3) (v 0) (fun t => L (10 + t)) ∧ IsList g σ (L 2) (L 4) (v 1) (fun q => L (100 + q)) ∧
  (∀ t, t < v 0 → σ (L (10 + t)) = some (tanE v t) ∧ gB g ≤ L (10 + t)) ∧ (∀ q, q < v 1 → σ (L (100 + q)) = some (pipE v q) ∧ gB g ≤ L (100 + q)) ∧
  (∀ i j, i < v 0 → j < v 0 → L (10 + i) = L (10 + j) → i = j) ∧ (∀ i j, i < v 1 → j < v 1 → L (100 + i) = L (100 + j) → i = j) ∧ L 1 ≠ L 2 ∧ (L 3 = L 4 → L 3 = gA g 0)
def sumK (v : Nat → Nat) : Nat → Nat
  | 0 => 0
  | n + 1 => sumK v n + tK v n
def Inv (v : Nat → Nat) : Prop := v 0 ≤ 8 ∧ v 1 ≤ 12 ∧ (∀ t, t < v 0 → 10 ≤ tC v t ∧ tC v t ≤ 999 ∧ tK v t ≤ tC v t ∧ tI v t < 256) ∧
  (∀ q, q < v 1 → pA v q < v 0 ∧ pB v q < v 0 ∧ pA v q ≠ pB v q ∧ pM v q < 256 ∧ pV v q ≤ 4 ∧ pR v q ≤ 9 ∧ pD v q ≤ 20) ∧ v 3 = v 4 + v 5 + sumK v (v 0)
theorem Inv.tk {v : Nat → Nat} (h : Inv v) {t : Nat} (ht : t < v 0) : 10 ≤ tC v t ∧ tC v t ≤ 999 ∧ tK v t ≤ tC v t ∧ tI v t < 256 := h.2.2.1 t ht
theorem Inv.pp {v : Nat → Nat} (h : Inv v) {q : Nat} (hq : q < v 1) : pA v q < v 0 ∧ pB v q < v 0 ∧ pA v q ≠ pB v q ∧ pM v q < 256 ∧ pV v q ≤ 4 ∧ pR v q ≤ 9 ∧ pD v q ≤ 20 := h.2.2.2.1 q hq
/-! one pipe's flow -/
theorem oth_a {a b : Nat} : oth a b a = b := if_pos rfl
theorem oth_b {a b : Nat} (h : a ≠ b) : oth a b b = a := if_neg h
def opv (v : Nat → Nat) (q : Nat) : Bool := opn (pV v q) (pD v q)
def fwd (v : Nat → Nat) (q : Nat) : Prop := tK v (pB v q) < tK v (pA v q)
def srcv (v : Nat → Nat) (q : Nat) : Nat := if tK v (pB v q) < tK v (pA v q) then pA v q else pB v q
def dstv (v : Nat → Nat) (q : Nat) : Nat := if tK v (pB v q) < tK v (pA v q) then pB v q else pA v q
def lit (v : Nat → Nat) (q : Nat) : Nat := if opv v q = true then min (5 * pV v q) (min ((tK v (srcv v q) - tK v (dstv v q)) / 2) (tC v (dstv v q) - tK v (dstv v q))) else 0
def lits (v : Nat → Nat) (q : Nat) : Int32 := if tK v (pB v q) < tK v (pA v q) then nI (lit v q) else -nI (lit v q)
theorem lit_0 {v : Nat → Nat} {q : Nat} (h : opn (pV v q) (pD v q) = false) : lit v q = 0 := if_neg (by rw [opv, h]; decide)
theorem lit_f {v : Nat → Nat} {q : Nat} (h : opn (pV v q) (pD v q) = true) (hf : tK v (pB v q) < tK v (pA v q)) : lit v q = min (5 * pV v q) (min ((tK v (pA v q) - tK v (pB v q)) / 2) (tC v (pB v q) - tK v (pB v q))) := by
  unfold lit srcv dstv
  rw [if_pos (show opv v q = true from h), if_pos hf, if_pos hf]
theorem lit_b {v : Nat → Nat} {q : Nat} (h : opn (pV v q) (pD v q) = true) (hf : ¬ tK v (pB v q) < tK v (pA v q)) : lit v q = min (5 * pV v q) (min ((tK v (pB v q) - tK v (pA v q)) / 2) (tC v (pA v q) - tK v (pA v q))) := by
  unfold lit srcv dstv
  rw [if_pos (show opv v q = true from h), if_neg hf, if_neg hf]
theorem lit_le {v : Nat → Nat} {q : Nat} (h : Inv v) (hq : q < v 1) : lit v q ≤ 20 := by
  have := (h.pp hq).2.2.2.2.1
  unfold lit
  split <;> omega
theorem acc_sum {v : Nat → Nat} (h : Inv v) : nI (v 3) - nI (v 4) - nI (v 5) = nI (sumK v (v 0)) := by
  have h1 := h.2.2.2.2
  rw [h1, ← nI_add, ← nI_add]
  rw [Int32.add_assoc, Int32.add_comm (nI (v 4)), Int32.add_sub_cancel, Int32.add_comm, Int32.add_sub_cancel]
def stillN (v : Nat → Nat) : Nat → Bool
  | 0 => true
  | n + 1 => stillN v n && decide (lit v n = 0)
/-- tank j comes before tank k by contents -/
def aheadT (v : Nat → Nat) (j k : Nat) : Bool := ahead (tK v j) (tI v j) (tK v k) (tI v k) || (tied (tK v j) (tI v j) (tK v k) (tI v k) && decide (j < k))
def aheadN (v : Nat → Nat) (k : Nat) : Nat → Nat
  | 0 => 0
  | n + 1 => aheadN v k n + if aheadT v n k then 1 else 0
def findT (v : Nat → Nat) (r : Int32) (k : Nat) : Nat → Int32
  | 0 => -1
  | n + 1 => if nI (aheadN v k (v 0)) = r then nI k else findT v r (k + 1) n
def pmore (v : Nat → Nat) (q p : Nat) : Int32 := if nI (pD v q) - nI (pD v p) = 0 then nI (pL v q) - nI (pL v p) else nI (pD v q) - nI (pD v p)
def aheadP (v : Nat → Nat) (j k : Nat) : Bool := decide (0 < pmore v j k) || (decide (pmore v j k = 0) && decide (j < k))
def aheadPN (v : Nat → Nat) (k : Nat) : Nat → Nat
  | 0 => 0
  | n + 1 => aheadPN v k n + if aheadP v n k then 1 else 0
def findP (v : Nat → Nat) (r : Int32) (k : Nat) : Nat → Int32
  | 0 => -1
  | n + 1 => if nI (aheadPN v k (v 1)) = r then nI k else findP v r (k + 1) n
def rot5 (x : Int64) : Int64 := x <<< (Int32.toInt64 (nI 5) &&& 63) ||| (Int64.toUInt64 x >>> ((Int32.toInt64 (nI 59)).toUInt64 &&& Int64.toUInt64 63)).toInt64
def rot7 (x : Int64) : Int64 := x <<< (Int32.toInt64 (nI 7) &&& 63) ||| (Int64.toUInt64 x >>> ((Int32.toInt64 (nI 57)).toUInt64 &&& Int64.toUInt64 63)).toInt64
def prT (v : Nat → Nat) : Nat → Int64
  | 0 => 17
  | n + 1 => rot5 (prT v n) ^^^ lN (tK v n + 1000 * tC v n + 1000000 * tI v n)
def prP (v : Nat → Nat) : Nat → Int64
  | 0 => prT v (v 0)
  | n + 1 => rot7 (prP v n) ^^^ lN (pV v n + 5 * pD v n + 1000 * pR v n + 10000 * pM v n)
theorem lit_pos {v : Nat → Nat} {q : Nat} (h : 0 < lit v q) : opn (pV v q) (pD v q) = true := by
  cases e : opn (pV v q) (pD v q) with
  | true => rfl
  | false =>
    rw [lit_0 e] at h
    cases h
