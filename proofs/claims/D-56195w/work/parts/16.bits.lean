/-! ===== bits of small naturals ===== -/
theorem nI_and (a b : Nat) : nI a &&& nI b = nI (a &&& b) := by
  apply Int32.toBitVec_inj.mp
  show BitVec.ofNat 32 a &&& BitVec.ofNat 32 b = BitVec.ofNat 32 (a &&& b)
  rw [BitVec.ofNat_and]
theorem nI_or (a b : Nat) : nI a ||| nI b = nI (a ||| b) := by
  apply Int32.toBitVec_inj.mp
  show BitVec.ofNat 32 a ||| BitVec.ofNat 32 b = BitVec.ofNat 32 (a ||| b)
  rw [BitVec.ofNat_or]
/-- without the bits of b (sets of eight) -/
def clr (a b : Nat) : Nat := a &&& (255 ^^^ b)
theorem nI_clr : ∀ a, a < 256 → ∀ b, b < 256 → nI a &&& (nI b ^^^ (-1)) = nI (clr a b) := by
  intro a ha b hb
  apply Int32.toBitVec_inj.mp
  show BitVec.ofNat 32 a &&& (BitVec.ofNat 32 b ^^^ BitVec.ofInt 32 (-1)) = BitVec.ofNat 32 (a &&& (255 ^^^ b))
  apply BitVec.eq_of_getElem_eq
  intro i hi
  have hg : ∀ n : Nat, (BitVec.ofNat 32 n)[i] = n.testBit i := fun n => by
    rw [BitVec.getElem_eq_testBit_toNat, BitVec.toNat_ofNat, Nat.testBit_mod_two_pow]
    simp [hi]
  rw [BitVec.getElem_and, BitVec.getElem_xor, hg, hg, hg, Nat.testBit_and, Nat.testBit_xor]
  have h1 : (BitVec.ofInt 32 (-1))[i] = true := by
    rw [show BitVec.ofInt 32 (-1) = BitVec.allOnes 32 by decide, BitVec.getElem_allOnes]
  rw [h1]
  by_cases h8 : i < 8
  · have : Nat.testBit 255 i = true := by
      rw [show (255 : Nat) = 2 ^ 8 - 1 by decide, Nat.testBit_two_pow_sub_one]
      simp [h8]
    rw [this]
    cases Nat.testBit b i <;> cases Nat.testBit a i <;> rfl
  · have ha2 : Nat.testBit a i = false := Nat.testBit_lt_two_pow (Nat.lt_of_lt_of_le ha (by rw [show 256 = 2 ^ 8 by decide]; exact Nat.pow_le_pow_right (by decide) (by omega)))
    rw [ha2]
    simp
theorem clr_lt {a b : Nat} (ha : a < 256) : clr a b < 256 := Nat.lt_of_le_of_lt Nat.and_le_left ha
theorem clr_le {a b : Nat} : clr a b ≤ a := Nat.and_le_left
theorem or_lt8 {a b : Nat} (ha : a < 256) (hb : b < 256) : a ||| b < 256 := Nat.or_lt_two_pow (n := 8) ha hb
theorem pops_lt : ∀ a, a < 256 → pops a ≤ 8 := by decide +kernel
theorem nsub_toInt {a b : Nat} (ha : a < 2 ^ 30) (hb : b < 2 ^ 30) : (nI a - nI b).toInt = (a : Int) - b := pk_sub_toInt ha hb
theorem nsub_pos {a b : Nat} (ha : a < 2 ^ 30) (hb : b < 2 ^ 30) : 0 < nI a - nI b ↔ b < a := by
  rw [Int32.lt_iff_toInt_lt, nsub_toInt ha hb, Int32.toInt_zero]; omega
theorem nsub_eq0 {a b : Nat} (ha : a < 2 ^ 30) (hb : b < 2 ^ 30) : nI a - nI b = 0 ↔ a = b := by
  rw [← Int32.toInt_inj, nsub_toInt ha hb, Int32.toInt_zero]; omega
theorem nsub_le0 {a b : Nat} (ha : a < 2 ^ 30) (hb : b < 2 ^ 30) : nI a - nI b ≤ 0 ↔ a ≤ b := by
  rw [Int32.le_iff_toInt_le, nsub_toInt ha hb, Int32.toInt_zero]; omega
/-- longs that are naturals -/
theorem nl_i2l {a : Nat} (h : a < 2 ^ 31) : (nI a).toInt64 = lN a := nI_l h
