/-! ===== sets of tanks as bits ===== -/
set_option maxRecDepth 100000
def Bs (x : Nat) (R : Nat → Bool) : Prop := x < 256 ∧ ∀ j, j < 8 → x.testBit j = R j
theorem sh1 : ∀ t, t < 8 → nI 1 <<< (nI t &&& 31) = nI (2 ^ t) := by decide +kernel
theorem bitI : ∀ x, x < 256 → ∀ b, b < 8 → (nI x >>> (nI b &&& 31)) &&& nI 1 = bI (x.testBit b) := by decide +kernel
theorem bI_one {b : Bool} : bI b = nI 1 ↔ b = true := by cases b <;> decide
theorem Bs.get {x b : Nat} {R : Nat → Bool} (h : Bs x R) (hb : b < 8) : (nI x >>> (nI b &&& 31)) &&& nI 1 = bI (R b) := by
  rw [bitI x h.1 b hb, h.2 b hb]
theorem pow_lt8 {t : Nat} (h : t < 8) : 2 ^ t < 256 := Nat.pow_lt_pow_right (a := 2) (by decide) (show t < 8 from h)
theorem Bs.start {t : Nat} (h : t < 8) : Bs (2 ^ t) (fun j => decide (j = t)) := by
  refine ⟨pow_lt8 h, fun j _ => ?_⟩
  rw [Nat.testBit_two_pow]
  by_cases e : t = j
  · simp [e]
  · have e2 : ¬ j = t := fun q => e q.symm
    simp [e, e2]
theorem Bs.or2 {x y : Nat} {R S : Nat → Bool} (h1 : Bs x R) (h2 : Bs y S) : Bs (x ||| y) (fun j => R j || S j) :=
  ⟨Nat.or_lt_two_pow (n := 8) h1.1 h2.1, fun j hj => by rw [Nat.testBit_or, h1.2 j hj, h2.2 j hj]⟩
theorem Bs.congr {x : Nat} {R S : Nat → Bool} (h : Bs x R) (e : ∀ j, j < 8 → R j = S j) : Bs x S := ⟨h.1, fun j hj => by rw [h.2 j hj, e j hj]⟩
theorem Bs.or {x a b : Nat} {R : Nat → Bool} (h : Bs x R) (ha : a < 8) (hb : b < 8) : Bs (x ||| (2 ^ a ||| 2 ^ b)) (va_up (va_up R a true) b true) := by
  refine (h.or2 ((Bs.start ha).or2 (Bs.start hb))).congr fun j _ => ?_
  unfold va_up
  by_cases e1 : j = b
  · simp [e1]
  · by_cases e2 : j = a
    · simp [e2]
    · simp [e1, e2]
theorem Bs.and {x a b : Nat} {R : Nat → Bool} (h : Bs x R) (ha : a < 8) (hb : b < 8) : x &&& (2 ^ a ||| 2 ^ b) = 0 ↔ (R a || R b) = false := by
  constructor
  · intro h0
    have e : ∀ i, (x &&& (2 ^ a ||| 2 ^ b)).testBit i = false := fun i => by rw [h0, Nat.zero_testBit]
    have e1 := e a
    have e2 := e b
    rw [Nat.testBit_and, Nat.testBit_or, Nat.testBit_two_pow_self, Bool.true_or, Bool.and_true, h.2 a ha] at e1
    rw [Nat.testBit_and, Nat.testBit_or, Nat.testBit_two_pow_self, Bool.or_true, Bool.and_true, h.2 b hb] at e2
    rw [e1, e2]
    rfl
  · intro h0
    rw [Bool.or_eq_false_iff] at h0
    apply Nat.eq_of_testBit_eq
    intro i
    rw [Nat.testBit_and, Nat.testBit_or, Nat.testBit_two_pow, Nat.testBit_two_pow, Nat.zero_testBit]
    by_cases e1 : a = i
    · subst e1
      rw [h.2 a ha, h0.1, Bool.false_and]
    · by_cases e2 : b = i
      · subst e2
        rw [h.2 b hb, h0.2, Bool.false_and]
      · simp [e1, e2]
theorem use_f1 {v : Nat → Nat} {s k : Nat} {c : Int32} (h : nI k = c) : use v s c k = false := by simp [use, h]
theorem use_f2 {v : Nat → Nat} {s k : Nat} {c : Int32} (h : opv v k = false) : use v s c k = false := by
  unfold use
  rw [show opn (pV v k) (pD v k) = false from h]
  simp
theorem use_f3 {v : Nat → Nat} {s k : Nat} {c : Int32} (h : pV v k < s) : use v s c k = false := by
  unfold use
  rw [decide_eq_false (show ¬ s ≤ pV v k by omega)]
  simp
theorem use_t {v : Nat → Nat} {s k : Nat} {c : Int32} (h1 : ¬ nI k = c) (h2 : opv v k = true) (h3 : ¬ pV v k < s) : use v s c k = true := by
  unfold use
  rw [show opn (pV v k) (pD v k) = true from h2, decide_eq_true (show s ≤ pV v k by omega), decide_eq_true (show nI k ≠ c from h1)]
  rfl
theorem jp_skip {v : Nat → Nat} {s n : Nat} {c : Int32} {R : Nat → Bool} (h : use v s c n = false) : jp v s c R (n + 1) = jp v s c R n := by
  rw [jp, h, Bool.false_and, if_neg (by decide)]
theorem jp_none {v : Nat → Nat} {s n : Nat} {c : Int32} {R : Nat → Bool} (h : (jp v s c R n (pA v n) || jp v s c R n (pB v n)) = false) : jp v s c R (n + 1) = jp v s c R n := by
  rw [jp, h, Bool.and_false, if_neg (by decide)]
theorem jp_do {v : Nat → Nat} {s n : Nat} {c : Int32} {R : Nat → Bool} (hu : use v s c n = true) (h : ¬ (jp v s c R n (pA v n) || jp v s c R n (pB v n)) = false) : jp v s c R (n + 1) = va_up (va_up (jp v s c R n) (pA v n) true) (pB v n) true := by
  have h1 : (jp v s c R n (pA v n) || jp v s c R n (pB v n)) = true := by
    cases e : (jp v s c R n (pA v n) || jp v s c R n (pB v n)) with
    | true => rfl
    | false => exact absurd e h
  rw [jp, hu, h1, Bool.true_and, if_pos rfl]
/-- what is joined with one of the first k -/
def grS (v : Nat → Nat) (k j : Nat) : Bool := (List.range k).any (fun t => conB v 1 (-1) t j)
theorem grS_s {v : Nat → Nat} {k j : Nat} : grS v (k + 1) j = (grS v k j || conB v 1 (-1) k j) := by
  unfold grS
  rw [List.range_succ, List.any_append]
  simp
theorem grS_iff {v : Nat → Nat} {k j : Nat} : grS v k j = true ↔ ∃ t, t < k ∧ conB v 1 (-1) t j = true := by
  unfold grS
  simp [List.any_eq_true]
theorem gr_skip {v : Nat → Nat} (hI : Inv v) {k j : Nat} (hk : k < v 0) (h : grS v k k = true) : grS v k j = grS v (k + 1) j := by
  rw [grS_s]
  cases e : conB v 1 (-1) k j with
  | false => rw [Bool.or_false]
  | true =>
    rw [Bool.or_true]
    obtain ⟨t, ht, h1⟩ := grS_iff.mp h
    exact grS_iff.mpr ⟨t, ht, (conB_iff hI (by omega)).mpr (((conB_iff hI (by omega)).mp h1).trans ((conB_iff hI hk).mp e))⟩
