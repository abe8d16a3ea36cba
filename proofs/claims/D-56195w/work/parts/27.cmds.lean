/-! ===== what the commands do: pure ===== -/
set_option maxRecDepth 100000
/-- x is the address of a text constant -/
def isK (g : Gh) (x : Nat) (tx : String) : Prop := ∃ own k, Cond.stringRef own k tx ∈ lw_tbl ∧ x = gS g own k
/-- a ConditionFailure of the kind tx is thrown; nothing else has changed -/
def thr (g : Gh) (σ : Sto) (tx : String) : Addr → String → Sto → Prop := fun q E σ' => E = "FilterWaterworks$ConditionFailure" ∧ Ext σ σ' ∧ gB g ≤ q ∧ σ q = none ∧ ∃ (u0 sen : RefV) (x : Nat), isK g x tx ∧ σ' q = some (.inr (15, [.null, u0.v, sen.v, .null, .null, .int (nI 0), .ref x]))
/-- the works at L has become v' -/
def Did (g : Gh) (σ : Sto) (L v : Nat → Nat) (σ' : Sto) (v' : Nat → Nat) : Prop := ∃ L' : Nat → Nat, IsWorks g σ' L' v' ∧ L' 0 = L 0 ∧ (∀ a, Fo g L' v' a → Fo g L v a ∨ σ a = none) ∧ Fr g σ σ' L v
abbrev Res : Type := Except String (Int32 × (Nat → Nat))
def cl (x : Int32) : Nat := x.toNatClampNeg
theorem cl_nI {n : Nat} (h : n < 2 ^ 31) : cl (nI n) = n := nI_clamp h
theorem btw_iff {a : Int32} {lo hi : Nat} (h1 : lo < 2 ^ 30) (h2 : hi < 2 ^ 30) : btw a (nI lo) (nI hi) = true ↔ ∃ n, lo ≤ n ∧ n ≤ hi ∧ a = nI n := by
  unfold btw
  rw [decide_eq_true_eq, Int32.le_iff_toInt_le, Int32.le_iff_toInt_le, nI_toInt (by omega), nI_toInt (by omega)]
  constructor
  · intro ⟨h3, h4⟩
    obtain ⟨j, hj, e⟩ := nI_of (x := a) (by rw [Int32.lt_iff_toInt_lt, Int32.toInt_zero]; omega)
    rw [e, nI_toInt hj] at h3 h4
    exact ⟨j, by omega, by omega, e⟩
  · rintro ⟨n, h3, h4, rfl⟩
    rw [nI_toInt (by omega)]
    omega
def tankR (v : Nat → Nat) (c : Int32) : Res := if btw c (nI 10) (nI 999) = true then if v 0 < 8 then .ok (nI (v 0), va_up (upT v (v 0) (cl c) 0 0) 0 (v 0 + 1)) else .error "state" else .error "argument"
def pipeR (v : Nat → Nat) (a b m : Int32) : Res := if (inN a (v 0) && inN b (v 0)) = true then if (decide (a ≠ b) && btw m (nI 0) (nI 255)) = true then if v 1 < 12 then .ok (nI (v 1), va_up (upP v (v 1) (cl a) (cl b) (cl m) 0 0 0 0) 1 (v 1 + 1)) else .error "state" else .error "argument" else .error "index"
def pourV (v : Nat → Nat) (i x s : Nat) : Nat → Nat := upW (upT v i (tC v i) (tK v i + x) (tI v i ||| s)) (v 2) (v 3 + x) (v 4) (v 5)
def pourR (v : Nat → Nat) (i x s : Int32) : Res := if inN i (v 0) = true then if (btw x (nI 1) (nI 999) && btw s (nI 0) (nI 255)) = true then if cl x ≤ tC v (cl i) - tK v (cl i) then .ok (nI (tK v (cl i) + cl x), pourV v (cl i) (cl x) (cl s)) else .error "rule" else .error "argument" else .error "index"
def drawV (v : Nat → Nat) (i x : Nat) : Nat → Nat := upW (upT v i (tC v i) (tK v i - x) (if tK v i - x = 0 then 0 else tI v i)) (v 2) (v 3) (v 4 + x) (v 5)
def drawR (v : Nat → Nat) (i x : Int32) : Res := if inN i (v 0) = true then if btw x (nI 1) (nI 999) = true then if cl x ≤ tK v (cl i) then .ok (nI (tK v (cl i) - cl x), drawV v (cl i) (cl x)) else .error "rule" else .error "argument" else .error "index"
def valveR (v : Nat → Nat) (q x : Int32) : Res := if inN q (v 1) = true then if btw x (nI 0) (nI 4) = true then .ok (nI (pV v (cl q)), upP v (cl q) (pA v (cl q)) (pB v (cl q)) (pM v (cl q)) (cl x) (pR v (cl q)) (pD v (cl q)) (pL v (cl q))) else .error "argument" else .error "index"
def leakR (v : Nat → Nat) (q x : Int32) : Res := if inN q (v 1) = true then if btw x (nI 0) (nI 9) = true then .ok (nI (pR v (cl q)), upP v (cl q) (pA v (cl q)) (pB v (cl q)) (pM v (cl q)) (pV v (cl q)) (cl x) (pD v (cl q)) (pL v (cl q))) else .error "argument" else .error "index"
def cleanR (v : Nat → Nat) (q : Int32) : Res := if inN q (v 1) = true then .ok (nI (pD v (cl q)), upP v (cl q) (pA v (cl q)) (pB v (cl q)) (pM v (cl q)) (pV v (cl q)) (pR v (cl q)) 0 (pL v (cl q))) else .error "index"
def mins (v : Nat → Nat) : Nat → Nat → Nat
  | 0 => v
  | n + 1 => minv (mins v n)
def waitR (v : Nat → Nat) (x : Int32) : Res := if btw x (nI 1) (nI 60) = true then .ok (nI (mins v (cl x) 5) - nI (v 5), mins v (cl x)) else .error "argument"
theorem Did.of {g : Gh} {σ σ' : Sto} {L v v' : Nat → Nat} (h : IsWorks g σ' L v') (hF : Fr g σ σ' L v) (e0 : v' 0 = v 0) (e1 : v' 1 = v 1) : Did g σ L v σ' v' := ⟨L, h, rfl, fun a ha => Or.inl (by unfold Fo at ha ⊢; rw [e0, e1] at ha; exact ha), hF⟩
theorem mins_0 {v : Nat → Nat} {n j : Nat} (hj : j < 2) : mins v n j = v j := by
  induction n with
  | zero => rfl
  | succ n ih => rw [mins, minv, flowsN_0 hj, ih]
theorem inv_mins {v : Nat → Nat} (h : Inv v) : ∀ n, Inv (mins v n)
  | 0 => h
  | n + 1 => inv_minv (inv_mins h n)
/-- minutes until still, at most n of them from k on -/
def msf (v : Nat → Nat) (k : Nat) : Nat → Int32
  | 0 => if stillN (mins v k) (mins v k 1) = true then nI k else -1
  | n + 1 => if stillN (mins v k) (mins v k 1) = true then nI k else msf v (k + 1) n
theorem msf_t {v : Nat → Nat} {k n : Nat} (h : stillN (mins v k) (mins v k 1) = true) : msf v k n = nI k := by
  cases n <;> exact if_pos h
theorem msf_f {v : Nat → Nat} {k n : Nat} (h : stillN (mins v k) (mins v k 1) = false) : msf v k (n + 1) = msf v (k + 1) n := if_neg (by rw [h]; decide)
theorem msf_0 {v : Nat → Nat} {k : Nat} (h : stillN (mins v k) (mins v k 1) = false) : msf v k 0 = -1 := if_neg (by rw [h]; decide)
