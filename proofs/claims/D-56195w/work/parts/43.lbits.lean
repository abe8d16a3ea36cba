/-! ===== bits of longs: pure ===== -/
set_option maxRecDepth 100000
theorem sh_amt : ∀ s, s < 256 → (Int32.toInt64 (nI s)).toUInt64 &&& Int64.toUInt64 63 = UInt64.ofNat (s % 64) := by decide +kernel
theorem sh_amt' : ∀ s, s < 256 → Int32.toInt64 (nI s) &&& 63 = Int64.ofNat (s % 64) := by decide +kernel
theorem and1 (b : BitVec 64) : (b &&& 1#64 = 1#64) ↔ b.getLsbD 0 = true := by
  constructor
  · intro h
    have := congrArg (fun z => z.getLsbD 0) h
    simpa using this
  · intro h
    apply BitVec.eq_of_getLsbD_eq
    intro i hi
    rw [BitVec.getLsbD_and]
    by_cases e : i = 0
    · subst e; rw [h]; rfl
    · simp [BitVec.getLsbD_one, e]
theorem lbit_eq {x : Int64} {s : Nat} (hs : s < 256) : lbit x s = x.toBitVec.getLsbD (s % 64) := by
  unfold lbit
  rw [sh_amt s hs]
  have h1 : ((Int64.toUInt64 x >>> UInt64.ofNat (s % 64)).toInt64 &&& 1 = 1) ↔ x.toBitVec.getLsbD (s % 64) = true := by
    rw [← Int64.toBitVec_inj, Int64.toBitVec_and]
    show (Int64.toUInt64 x >>> UInt64.ofNat (s % 64)).toBitVec &&& 1#64 = 1#64 ↔ _
    rw [and1, UInt64.toBitVec_shiftRight]
    have h2 : (UInt64.ofNat (s % 64)).toBitVec % 64 = BitVec.ofNat 64 (s % 64) := by
      have : s % 64 < 64 := Nat.mod_lt _ (by decide)
      apply BitVec.eq_of_toNat_eq
      simp [BitVec.toNat_umod]
      omega
    rw [h2]
    simp [BitVec.getLsbD_ushiftRight]
    have : s % 64 % 18446744073709551616 = s % 64 := Nat.mod_eq_of_lt (by omega)
    rw [this]
  cases e : x.toBitVec.getLsbD (s % 64) with
  | true => exact decide_eq_true (h1.mpr e)
  | false => exact decide_eq_false (fun q => by rw [h1.mp q] at e; cases e)
theorem lset_bv {x : Int64} {s : Nat} (hs : s < 256) : (lset x s).toBitVec = x.toBitVec ||| 1#64 <<< (s % 64) := by
  unfold lset
  rw [sh_amt' s hs, Int64.toBitVec_or, Int64.toBitVec_shiftLeft]
  congr 1
  have h : s % 64 < 64 := Nat.mod_lt _ (by decide)
  have h2 : (Int64.ofNat (s % 64)).toBitVec.smod 64 = BitVec.ofNat 64 (s % 64) := by
    have : ∀ k, k < 64 → (Int64.ofNat k).toBitVec.smod 64 = BitVec.ofNat 64 k := by decide +kernel
    exact this _ h
  rw [h2]
  show 1#64 <<< (BitVec.ofNat 64 (s % 64)) = _
  rw [BitVec.shiftLeft_eq']
  congr 1
  rw [BitVec.toNat_ofNat]
  exact Nat.mod_eq_of_lt (by omega)
theorem lbit_lset {x : Int64} {s r : Nat} (hs : s < 256) (hr : r < 256) : lbit (lset x s) r = (decide (s % 64 = r % 64) || lbit x r) := by
  rw [lbit_eq hr, lbit_eq hr, lset_bv hs, BitVec.getLsbD_or]
  have h1 : s % 64 < 64 := Nat.mod_lt _ (by decide)
  have h2 : r % 64 < 64 := Nat.mod_lt _ (by decide)
  have h3 : (1#64 <<< (s % 64)).getLsbD (r % 64) = decide (s % 64 = r % 64) := by
    rw [BitVec.getLsbD_shiftLeft]
    by_cases e : s % 64 = r % 64
    · rw [e]; simp [h2]
    · simp [e, BitVec.getLsbD_one]
      omega
  rw [h3, Bool.or_comm]
/-- what a Reach holds: tank t is reached with the set x -/
def rhas (f : Nat → Int64) (t x : Nat) : Bool := lbit (f (4 * t + x / 64)) x
def radd (f : Nat → Int64) (t x : Nat) : Nat → Int64 := va_up f (4 * t + x / 64) (lset (f (4 * t + x / 64)) x)
theorem rhas_radd {f : Nat → Int64} {t x t' x' : Nat} (hx : x < 256) (hx' : x' < 256) : rhas (radd f t x) t' x' = (decide (t = t' ∧ x = x') || rhas f t' x') := by
  unfold rhas radd
  by_cases e : 4 * t' + x' / 64 = 4 * t + x / 64
  · rw [e, va_up_self, lbit_lset hx hx']
    congr 1
    apply decide_eq_decide.mpr
    omega
  · rw [va_up_ne _ _ e, decide_eq_false (by rintro ⟨rfl, rfl⟩; exact e rfl), Bool.false_or]
theorem lbit_0 {x : Nat} (hx : x < 256) : lbit 0 x = false := by
  rw [lbit_eq hx]
  simp
/-- the fewest impurities among the sets below n with which t is reached -/
def flt (m : Nat) : Option Nat → Bool
  | none => true
  | some x => decide (m < x)
def fwl (f : Nat → Int64) (t : Nat) : Nat → Option Nat
  | 0 => none
  | k + 1 => if (rhas f t k && flt (pops k) (fwl f t k)) = true then some (pops k) else fwl f t k
theorem fwl_le {f : Nat → Int64} {t : Nat} : ∀ n, n ≤ 256 → ∀ x, fwl f t n = some x → x ≤ 8
  | 0, _, x, h => nomatch h
  | k + 1, hn, x, h => by
    rw [fwl] at h
    split at h
    · cases h
      exact pops_lt k (by omega)
    · exact fwl_le k (by omega) x h
theorem shl_nI : ∀ n, n < 9 → ∀ p, p < 9 → nI n <<< (nI p &&& 31) = nI (n * 2 ^ p) := by decide +kernel
