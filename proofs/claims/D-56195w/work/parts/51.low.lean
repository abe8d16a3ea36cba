/-! ===== numbering: pure ===== -/
set_option maxRecDepth 100000
/-- connected by open pipes whose ends are all in A, without the pipe c -/
def CA (v : Nat → Nat) (A : Nat → Prop) (x y : Nat) : Prop := ∀ S : Nat → Prop, S x → (∀ k a b, k < v 1 → edg v k a b → A a → A b → S a → S b) → S y
theorem CA.refl {v : Nat → Nat} {A : Nat → Prop} {x : Nat} : CA v A x x := fun _ h _ => h
theorem CA.trans {v : Nat → Nat} {A : Nat → Prop} {x y z : Nat} (h1 : CA v A x y) (h2 : CA v A y z) : CA v A x z := fun S h hs => h2 S (h1 S h hs) hs
theorem CA.one {v : Nat → Nat} {A : Nat → Prop} {x y k : Nat} (hk : k < v 1) (he : edg v k x y) (hx : A x) (hy : A y) : CA v A x y := fun _ h hs => hs k x y hk he hx hy h
theorem CA.mono {v : Nat → Nat} {A B : Nat → Prop} {x y : Nat} (h : CA v A x y) (hAB : ∀ z, A z → B z) : CA v B x y := fun S h1 hs => h S h1 (fun k a b hk he ha hb => hs k a b hk he (hAB a ha) (hAB b hb))
theorem edg.symm {v : Nat → Nat} {k x y : Nat} (h : edg v k x y) : edg v k y x := ⟨h.1, h.2.elim (fun h => Or.inr ⟨h.2, h.1⟩) (fun h => Or.inl ⟨h.2, h.1⟩)⟩
theorem CA.symm {v : Nat → Nat} {A : Nat → Prop} {x y : Nat} (h : CA v A x y) : CA v A y x :=
  h (fun z => CA v A z x) CA.refl (fun _ _ _ hk he ha hb h1 => (CA.one hk he.symm hb ha).trans h1)
/-- a way whose pipes all have their ends in A: none of them is k, if an end of k is not in A -/
theorem CA.conn {v : Nat → Nat} (hI : Inv v) {A : Nat → Prop} {x y k o : Nat} (h : CA v A x y) (hk : k < v 1) (ho : ¬ A o) (hend : pA v k = o ∨ pB v k = o) : Conn v 1 (nI k) x y :=
  h (fun z => Conn v 1 (nI k) x z) Conn.refl (fun q a b hq he ha hb h1 => h1.trans (Conn.adj ⟨q, hq, by
    have := hI.2.1
    have hne : q ≠ k := by
      rintro rfl
      rcases he.2 with ⟨e1, e2⟩ | ⟨e1, e2⟩
      · rcases hend with e | e
        · exact ho (by rw [← e, e1]; exact ha)
        · exact ho (by rw [← e, e2]; exact hb)
      · rcases hend with e | e
        · exact ho (by rw [← e, e2]; exact hb)
        · exact ho (by rw [← e, e1]; exact ha)
    have h2 := he.1
    unfold use
    unfold opn at h2 ⊢
    have h3 := of_decide_eq_true h2
    rw [Bool.and_eq_true, Bool.and_eq_true]
    exact ⟨decide_eq_true (fun e => hne ((nI_eq (by omega) (by omega)).mp e)), h2, decide_eq_true h3.1⟩, he.2⟩))
/-- a pipe other than k is a step without k -/
theorem edg.conn {v : Nat → Nat} (hI : Inv v) {q k x y : Nat} (hq : q < v 1) (hk : k < v 1) (hne : q ≠ k) (he : edg v q x y) : Conn v 1 (nI k) x y := Conn.adj ⟨q, hq, by
  have := hI.2.1
  have h2 := he.1
  unfold use
  unfold opn at h2 ⊢
  have h3 := of_decide_eq_true h2
  rw [Bool.and_eq_true, Bool.and_eq_true]
  exact ⟨decide_eq_true (fun e => hne ((nI_eq (by omega) (by omega)).mp e)), h2, decide_eq_true h3.1⟩, he.2⟩
/-- a closed set (but for k) that holds one end of k alone: k is a bridge -/
theorem br_closed {v : Nat → Nat} (hI : Inv v) {k o t : Nat} {A : Nat → Prop} (hk : k < v 1) (he : edg v k o t) (ho : A o) (ht : ¬ A t) (hcl : ∀ q x y, q < v 1 → q ≠ k → edg v q x y → A x → A y) : brB v k = true := by
  have hcon : ¬ Conn v 1 (nI k) o t := fun h => ht (h A ho (fun x y ⟨q, hq, hu, hxy⟩ hx => by
    unfold use at hu
    rw [Bool.and_eq_true, Bool.and_eq_true] at hu
    exact hcl q x y hq (fun e => by rw [e] at hu; exact of_decide_eq_true hu.1 rfl) ⟨hu.2.1, hxy⟩ hx))
  obtain ⟨p1, p2, -⟩ := hI.pp hk
  unfold brB
  rw [he.1, Bool.true_and, Bool.not_eq_true']
  cases hc : conB v 1 (nI k) (pA v k) (pB v k) with
  | false => rfl
  | true =>
    have h := (conB_iff hI p1).mp hc
    rcases he.2 with ⟨e1, e2⟩ | ⟨e1, e2⟩
    · rw [e1, e2] at h; exact absurd h hcon
    · rw [e2, e1] at h; exact absurd h.symm hcon
theorem br_conn {v : Nat → Nat} (hI : Inv v) {k o t : Nat} (hk : k < v 1) (he : edg v k o t) (h : Conn v 1 (nI k) o t) : brB v k = false := by
  obtain ⟨p1, p2, -⟩ := hI.pp hk
  unfold brB
  have : conB v 1 (nI k) (pA v k) (pB v k) = true := by
    rw [conB_iff hI p1]
    rcases he.2 with ⟨e1, e2⟩ | ⟨e1, e2⟩
    · rw [e1, e2]; exact h
    · rw [e2, e1]; exact h.symm
  rw [this, Bool.not_true, Bool.and_false]
/-- new since num -/
def nw (num num' : Nat → Nat) (y : Nat) : Bool := decide (num y = 0) && decide (0 < num' y)
theorem nw_iff {num num' : Nat → Nat} {y : Nat} : nw num num' y = true ↔ num y = 0 ∧ 0 < num' y := by
  unfold nw
  rw [Bool.and_eq_true, decide_eq_true_eq, decide_eq_true_eq]
def bE (v : Nat → Nat) (A : Nat → Bool) (q : Nat) : Nat := if (brB v q && (A (pA v q) && A (pB v q))) = true then 1 else 0
def cE (v : Nat → Nat) (A : Nat → Bool) : Nat → Nat
  | 0 => 0
  | n + 1 => cE v A n + bE v A n
def VPre (v num : Nat → Nat) (nx t : Nat) (c : Int32) : Prop := num t = 0 ∧ t < v 0 ∧ 0 < nx ∧ (∀ y, num y < nx) ∧
  (∀ q y z, q < v 1 → edg v q y z → 0 < num y → num z = 0 → CA v (fun w => 0 < num w ∨ w = t) t y) ∧ (∀ q z, q < v 1 → nI q = c → edg v q t z → 0 < num z) ∧ ∀ q, q < v 1 → nI q = c → pA v q = t ∨ pB v q = t
def VI (v : Nat → Nat) (c : Int32) (num low : Nat → Nat) (nx br t : Nat) (num' low' : Nat → Nat) (nx' br' k : Nat) : Prop :=
  num' t = nx ∧ (∀ y, 0 < num y → num' y = num y ∧ low' y = low y) ∧
  (∀ y, num y = 0 → 0 < num' y → nx ≤ num' y) ∧ (nx < nx' ∧ ∀ y, num' y < nx') ∧
  (∀ y, num y = 0 → 0 < num' y → y ≠ t → ∀ q z, q < v 1 → edg v q y z → 0 < num' z) ∧
  (∀ q z, q < k → nI q ≠ c → edg v q t z → 0 < num' z) ∧
  (∀ y, num y = 0 → 0 < num' y → CA v (fun w => num w = 0 ∧ 0 < num' w) t y) ∧
  (low' t ≤ nx ∧ (low' t < nx → ∃ q x y, q < v 1 ∧ nI q ≠ c ∧ edg v q x y ∧ num x = 0 ∧ 0 < num' x ∧ 0 < num y ∧ num y = low' t)) ∧
  (∀ q x y, q < v 1 → nI q ≠ c → edg v q x y → num x = 0 → 0 < num' x → (x = t → q < k) → 0 < num y → low' t ≤ num y) ∧
  br' = br + cE v (nw num num') (v 1)
def VP (v : Nat → Nat) (c : Int32) (num low : Nat → Nat) (nx br t : Nat) (num' low' : Nat → Nat) (nx' br' : Nat) : Prop :=
  num' t = nx ∧ (∀ y, 0 < num y → num' y = num y ∧ low' y = low y) ∧
  (∀ y, num y = 0 → 0 < num' y → nx ≤ num' y) ∧ (nx < nx' ∧ ∀ y, num' y < nx') ∧
  (∀ y, num y = 0 → 0 < num' y → ∀ q z, q < v 1 → edg v q y z → 0 < num' z) ∧
  (∀ y, num y = 0 → 0 < num' y → CA v (fun w => num w = 0 ∧ 0 < num' w) t y) ∧
  (low' t ≤ nx ∧ (low' t < nx → ∃ q x y, q < v 1 ∧ nI q ≠ c ∧ edg v q x y ∧ num x = 0 ∧ 0 < num' x ∧ 0 < num y ∧ num y = low' t)) ∧
  (∀ q x y, q < v 1 → nI q ≠ c → edg v q x y → num x = 0 → 0 < num' x → 0 < num y → low' t ≤ num y) ∧
  br' = br + cE v (nw num num') (v 1)
theorem VI.done {v : Nat → Nat} {c : Int32} {num low : Nat → Nat} {nx br t : Nat} {num' low' : Nat → Nat} {nx' br' : Nat} (hp : VPre v num nx t c) (h : VI v c num low nx br t num' low' nx' br' (v 1)) : VP v c num low nx br t num' low' nx' br' := by
  obtain ⟨h1, h2, h3, h4, h5, h6, h7, h8, h9, h10⟩ := h
  refine ⟨h1, h2, h3, h4, fun y hy hy2 q z hq he => ?_, h7, h8, fun q x y hq hc he h0 h1 hy => h9 q x y hq hc he h0 h1 (fun _ => hq) hy, h10⟩
  by_cases e : y = t
  · subst e
    by_cases hc : nI q = c
    · have hz := hp.2.2.2.2.2.1 q z hq hc he
      rw [(h2 z hz).1]; exact hz
    · exact h6 q z hq hc he
  · exact h5 y hy hy2 e q z hq he
theorem edg.ne {v : Nat → Nat} (hI : Inv v) {k x y : Nat} (hk : k < v 1) (h : edg v k x y) : x ≠ y := by
  have hne := (hI.pp hk).2.2.1
  rcases h.2 with ⟨e1, e2⟩ | ⟨e1, e2⟩
  · rw [← e1, ← e2]; exact hne
  · rw [← e1, ← e2]; exact hne.symm
theorem cE_0 {v : Nat → Nat} {A : Nat → Bool} : ∀ n, (∀ q, q < n → bE v A q = 0) → cE v A n = 0
  | 0, _ => rfl
  | n + 1, h => by rw [cE, cE_0 n (fun q hq => h q (by omega)), h n (by omega)]
theorem VI.start {v : Nat → Nat} (hI : Inv v) {c : Int32} {num low : Nat → Nat} {nx br t : Nat} (hp : VPre v num nx t c) : VI v c num low nx br t (va_up num t nx) (va_up low t nx) (nx + 1) br 0 := by
  obtain ⟨p1, p2, p3, p4, p5, p6, p7⟩ := hp
  have k : ∀ y, num y = 0 → 0 < va_up num t nx y → y = t := fun y h0 h1 => by
    by_cases e : y = t
    · exact e
    · rw [va_up_ne _ _ e, h0] at h1; omega
  have hb : ∀ q, q < v 1 → bE v (nw num (va_up num t nx)) q = 0 := fun q hq => by
    unfold bE
    rw [if_neg]
    intro h
    rw [Bool.and_eq_true, Bool.and_eq_true, nw_iff, nw_iff] at h
    exact (hI.pp hq).2.2.1 ((k _ h.2.1.1 h.2.1.2).trans (k _ h.2.2.1 h.2.2.2).symm)
  refine ⟨va_up_self _ _ _, fun y hy => ?_, fun y h0 h1 => ?_, ⟨by omega, fun y => ?_⟩, fun y h0 h1 hne => absurd (k y h0 h1) hne, fun q z hq => absurd hq (by omega), fun y h0 h1 => ?_, ⟨by rw [va_up_self]; exact Nat.le_refl _, fun h => ?_⟩, fun q x y hq hc he h0 h1 hx => ?_, ?_⟩
  · have e : y ≠ t := by rintro rfl; omega
    rw [va_up_ne _ _ e, va_up_ne _ _ e]
    exact ⟨rfl, rfl⟩
  · rw [k y h0 h1, va_up_self]; exact Nat.le_refl _
  · by_cases e : y = t
    · rw [e, va_up_self]; omega
    · rw [va_up_ne _ _ e]; have := p4 y; omega
  · rw [k y h0 h1]; exact CA.refl
  · rw [va_up_self] at h; omega
  · exact absurd (hx (k x h0 h1)) (by omega)
  · rw [cE_0 _ hb]; omega
theorem VI.skip {v : Nat → Nat} {c : Int32} {num low : Nat → Nat} {nx br t : Nat} {num' low' : Nat → Nat} {nx' br' k : Nat} (h : VI v c num low nx br t num' low' nx' br' k) (hk : nI k = c ∨ ∀ z, ¬ edg v k t z) : VI v c num low nx br t num' low' nx' br' (k + 1) := by
  obtain ⟨h1, h2, h3, h4, h5, h6, h7, h8, h9, h10⟩ := h
  refine ⟨h1, h2, h3, h4, h5, fun q z hq hc he => ?_, h7, h8, fun q x y hq hc he h0 hx ht hy => h9 q x y hq hc he h0 hx (fun e => ?_) hy, h10⟩
  · by_cases e : q = k
    · subst e
      rcases hk with hk | hk
      · exact absurd hk hc
      · exact absurd he (hk z)
    · exact h6 q z (by omega) hc he
  · have h9 := ht e
    by_cases e2 : q = k
    · subst e2
      rcases hk with hk | hk
      · exact absurd hk hc
      · subst e; exact absurd he (hk y)
    · omega
theorem edg.fun {v : Nat → Nat} (hI : Inv v) {k x y z : Nat} (hk : k < v 1) (h : edg v k x y) (h2 : edg v k x z) : y = z := by
  have hne := (hI.pp hk).2.2.1
  obtain ⟨-, h⟩ := h
  obtain ⟨-, h2⟩ := h2
  omega
/-- the other end is numbered already -/
theorem VI.back {v : Nat → Nat} (hI : Inv v) {c : Int32} {num low : Nat → Nat} {nx br t : Nat} {num' low' : Nat → Nat} {nx' br' k o : Nat} (hp : VPre v num nx t c) (h : VI v c num low nx br t num' low' nx' br' k) (hk : k < v 1) (hc0 : nI k ≠ c) (he0 : edg v k t o) (ho : 0 < num' o) : VI v c num low nx br t num' (va_up low' t (min (low' t) (num' o))) nx' br' (k + 1) := by
  obtain ⟨h1, h2, h3, h4, h5, h6, h7, h8, h9, h10⟩ := h
  refine ⟨h1, fun y hy => ?_, h3, h4, h5, fun q z hq hc he => ?_, h7, ⟨?_, fun hl => ?_⟩, fun q x y hq hc he h0 hx ht hy => ?_, h10⟩
  · have e : y ≠ t := by rintro rfl; have := hp.1; omega
    rw [va_up_ne _ _ e]
    exact h2 y hy
  · by_cases e : q = k
    · subst e
      rw [← edg.fun hI hk he0 he]; exact ho
    · exact h6 q z (by omega) hc he
  · rw [va_up_self]; have := h8.1; omega
  · rw [va_up_self] at hl ⊢
    by_cases e : low' t ≤ num' o
    · rw [Nat.min_eq_left e] at hl ⊢
      exact h8.2 hl
    · rw [Nat.min_eq_right (by omega)] at hl ⊢
      have hold : 0 < num o := by
        by_cases h0 : num o = 0
        · have := h3 o h0 ho; omega
        · omega
      exact ⟨k, t, o, hk, hc0, he0, hp.1, by rw [h1]; exact hp.2.2.1, hold, (h2 o hold).1.symm⟩
  · rw [va_up_self]
    by_cases e : x = t ∧ q = k
    · obtain ⟨e1, e2⟩ := e
      subst e1 e2
      rw [edg.fun hI hk he he0] at hy ⊢
      rw [(h2 o hy).1]
      exact Nat.min_le_right _ _
    · have := h9 q x y hq hc he h0 hx (fun ex => by have := ht ex; omega) hy
      omega
/-- the child may be visited -/
theorem VI.pre {v : Nat → Nat} (hI : Inv v) {c : Int32} {num low : Nat → Nat} {nx br t : Nat} {num' low' : Nat → Nat} {nx' br' k o : Nat} (hp : VPre v num nx t c) (h : VI v c num low nx br t num' low' nx' br' k) (hk : k < v 1) (he0 : edg v k t o) (ho : num' o = 0) : VPre v num' nx' o (nI k) := by
  obtain ⟨p1, p2, p3, p4, p5, p6, p7⟩ := hp
  obtain ⟨h1, h2, h3, h4, h5, h6, h7, h8, h9, h10⟩ := h
  have h12 := hI.2.1
  have ho0 : o < v 0 := by
    obtain ⟨q1, q2, -⟩ := hI.pp hk
    rcases he0.2 with ⟨-, e⟩ | ⟨-, e⟩ <;> rw [← e] <;> assumption
  have hot : CA v (fun w => 0 < num' w ∨ w = o) o t := CA.one hk he0.symm (Or.inr rfl) (Or.inl (by rw [h1]; exact p3))
  refine ⟨ho, ho0, by omega, h4.2, fun q y z hq he hy hz => ?_, fun q z hq hc he => ?_, fun q hq hc => ?_⟩
  · by_cases hold : num y = 0
    · by_cases e : y = t
      · rw [e]; exact hot
      · have := h5 y hold hy e q z hq he
        omega
    · have hz0 : num z = 0 := by
        by_cases e : num z = 0
        · exact e
        · have := (h2 z (by omega)).1
          omega
      refine hot.trans ((p5 q y z hq he (by omega) hz0).mono (fun w hw => ?_))
      rcases hw with hw | hw
      · exact Or.inl (by rw [(h2 w hw).1]; exact hw)
      · exact Or.inl (by rw [hw, h1]; exact p3)
  · have e : q = k := (nI_eq (by omega) (by omega)).mp hc
    subst e
    rw [← edg.fun hI hk he0.symm he, h1]
    exact p3
  · have e : q = k := (nI_eq (by omega) (by omega)).mp hc
    subst e
    exact he0.2.elim (fun h => Or.inr h.2) (fun h => Or.inl h.2)
theorem cE_split {v : Nat → Nat} {A B C : Nat → Bool} {k d : Nat} : ∀ n, (∀ q, q < n → bE v C q = bE v A q + bE v B q + if q = k then d else 0) → cE v C n = cE v A n + cE v B n + if k < n then d else 0
  | 0, _ => rfl
  | n + 1, h => by
    have ih := cE_split n (fun q hq => h q (by omega))
    have hn := h n (by omega)
    rw [cE, cE, cE, ih, hn]
    by_cases e : n = k
    · subst e
      rw [if_pos rfl, if_neg (by omega : ¬ n < n), if_pos (by omega : n < n + 1)]
      omega
    · rw [if_neg e]
      by_cases e2 : k < n
      · rw [if_pos e2, if_pos (by omega : k < n + 1)]; omega
      · rw [if_neg e2, if_neg (by omega : ¬ k < n + 1)]; omega
/-- the child has been visited -/
theorem VI.tree {v : Nat → Nat} (hI : Inv v) {c : Int32} {num low : Nat → Nat} {nx br t : Nat} {num' low' : Nat → Nat} {nx' br' k o : Nat} (hp : VPre v num nx t c) (h : VI v c num low nx br t num' low' nx' br' k) (hk : k < v 1) (hc0 : nI k ≠ c) (he0 : edg v k t o) (ho : num' o = 0) {num2 low2 : Nat → Nat} {nx2 br2 : Nat} (hP : VP v (nI k) num' low' nx' br' o num2 low2 nx2 br2) :
    VI v c num low nx br t num2 (va_up low2 t (min (low2 t) (low2 o))) nx2 (br2 + if num2 t < low2 o then 1 else 0) (k + 1) := by
  have hpre := hp
  obtain ⟨p1, p2, p3, p4, p5, p6, p7⟩ := hp
  obtain ⟨h1, h2, h3, h4, h5, h6, h7, h8, h9, h10⟩ := h
  obtain ⟨c1, c2, c3, c4, c5, c6, c7, c8, c9⟩ := hP
  have h12 := hI.2.1
  have ht' : 0 < num' t := by rw [h1]; exact p3
  have ct := c2 t ht'
  have hot : o ≠ t := by rintro rfl; omega
  have kend : pA v k = t ∨ pB v k = t := he0.2.elim (fun h => Or.inl h.1) (fun h => Or.inr h.1)
  have kendo : pA v k = o ∨ pB v k = o := he0.2.elim (fun h => Or.inr h.2) (fun h => Or.inl h.2)
  have ho2 : 0 < num2 o := by rw [c1]; omega
  -- a numbered tank with a pipe into the child's part is t or an old one
  have who : ∀ q x y, q < v 1 → edg v q x y → num' x = 0 → 0 < num' y → y = t ∨ 0 < num y := fun q x y hq he hx hy => by
    by_cases e : num y = 0
    · by_cases e2 : y = t
      · exact Or.inl e2
      · have := h5 y e hy e2 q x hq he.symm
        omega
    · exact Or.inr (by omega)
  have num0 : ∀ x, num' x = 0 → num x = 0 := fun x hx => by
    by_cases e : num x = 0
    · exact e
    · have := (h2 x (by omega)).1; omega
  -- t is connected, without k, with a numbered tank that has a pipe into the child's part
  have way : ∀ q x y, q < v 1 → edg v q x y → num' x = 0 → 0 < num' y → Conn v 1 (nI k) t y := fun q x y hq he hx hy => by
    rcases who q x y hq he hx hy with e | e
    · rw [e]; exact Conn.refl
    · exact (p5 q y x hq he.symm e (num0 x hx)).conn hI hk (o := o) (fun hw => by
        rcases hw with hw | hw
        · have := (h2 o hw).1; omega
        · exact hot hw) kendo
  -- the child's part is connected, without any pipe at a numbered tank
  have inside : ∀ q w x, q < v 1 → 0 < num' w → (pA v q = w ∨ pB v q = w) → num' x = 0 → 0 < num2 x → Conn v 1 (nI q) o x := fun q w x hq hw hend hx hx2 => (c6 x hx hx2).conn hI hq (o := w) (fun h => by have := h.1; omega) hend
  have hbr : (if num2 t < low2 o then 1 else 0) = if brB v k = true then 1 else 0 := by
    rw [ct.1, h1]
    by_cases hl : nx < low2 o
    · rw [if_pos hl, if_pos]
      refine br_closed hI hk he0.symm (A := fun w => num' w = 0 ∧ 0 < num2 w) ⟨ho, ho2⟩ (fun hw => by have := hw.1; omega) (fun q x y hq hne he hx => ?_)
      have hy2 := c5 x hx.1 hx.2 q y hq he
      refine ⟨?_, hy2⟩
      by_cases e : num' y = 0
      · exact e
      · have h8 := c8 q x y hq (fun e9 => hne ((nI_eq (by omega) (by omega)).mp e9)) he hx.1 hx.2 (by omega)
        rcases who q x y hq he hx.1 (by omega) with e2 | e2
        · subst e2; omega
        · have := (h2 y e2).1
          have := p4 y
          omega
    · rw [if_neg hl, if_neg]
      intro hb
      obtain ⟨q, x, y, hq, hqk, he, hx, hx2, hy, hyl⟩ := c7.2 (by omega)
      have hqk' : q ≠ k := fun e => hqk (by rw [e])
      have w1 := inside k t x hk ht' kend hx hx2
      have w2 := edg.conn hI hq hk hqk' he
      have w3 := (way q x y hq he hx hy).symm
      rw [br_conn hI hk he0.symm ((w1.trans w2).trans w3)] at hb
      cases hb
  have hnew : ∀ y, num y = 0 → 0 < num2 y → (0 < num' y ∧ num2 y = num' y) ∨ (num' y = 0 ∧ 0 < num2 y) := fun y h0 h1 => by
    by_cases e : num' y = 0
    · exact Or.inr ⟨e, h1⟩
    · exact Or.inl ⟨by omega, (c2 y (by omega)).1⟩
  refine ⟨by rw [ct.1]; exact h1, fun y hy => ?_, fun y h0 hy => ?_, ⟨by omega, c4.2⟩, fun y h0 hy hne q z hq he => ?_, fun q z hq hc he => ?_, fun y h0 hy => ?_, ⟨?_, fun hl => ?_⟩, fun q x y hq hc he h0 hx ht hy => ?_, ?_⟩
  · have e : y ≠ t := by rintro rfl; omega
    obtain ⟨q1, q2⟩ := h2 y hy
    have := c2 y (by omega)
    rw [va_up_ne _ _ e, this.1, this.2]
    exact ⟨q1, q2⟩
  · rcases hnew y h0 hy with ⟨e1, e2⟩ | ⟨e1, e2⟩
    · rw [e2]; exact h3 y h0 e1
    · have := c3 y e1 e2; omega
  · rcases hnew y h0 hy with ⟨e1, e2⟩ | ⟨e1, e2⟩
    · have hz := h5 y h0 e1 hne q z hq he
      rw [(c2 z hz).1]; exact hz
    · exact c5 y e1 e2 q z hq he
  · by_cases e : q = k
    · subst e
      rw [← edg.fun hI hk he0 he]; exact ho2
    · have hz := h6 q z (by omega) hc he
      rw [(c2 z hz).1]; exact hz
  · have hmono : ∀ w, (num w = 0 ∧ 0 < num' w) → num w = 0 ∧ 0 < num2 w := fun w hw => ⟨hw.1, by rw [(c2 w hw.2).1]; exact hw.2⟩
    rcases hnew y h0 hy with ⟨e1, e2⟩ | ⟨e1, e2⟩
    · exact (h7 y h0 e1).mono hmono
    · refine (CA.one hk he0 ⟨p1, by rw [ct.1]; exact ht'⟩ ⟨num0 o ho, ho2⟩).trans ((c6 y e1 e2).mono (fun w hw => ⟨num0 w hw.1, hw.2⟩))
  · rw [va_up_self, ct.2]; have := h8.1; omega
  · rw [va_up_self] at hl ⊢
    rw [ct.2] at hl ⊢
    by_cases e : low' t ≤ low2 o
    · rw [Nat.min_eq_left e] at hl ⊢
      obtain ⟨q, x, y, k1, k2, k3, k4, k5, k6, k7⟩ := h8.2 hl
      exact ⟨q, x, y, k1, k2, k3, k4, by rw [(c2 x k5).1]; exact k5, k6, k7⟩
    · rw [Nat.min_eq_right (by omega)] at hl ⊢
      obtain ⟨q, x, y, k1, k2, k3, k4, k5, k6, k7⟩ := c7.2 (by omega)
      have hold : 0 < num y := by
        rcases who q x y k1 k3 k4 k6 with e9 | e9
        · rw [e9, h1] at k7; omega
        · exact e9
      have hx0 := num0 x k4
      refine ⟨q, x, y, k1, fun hcq => ?_, k3, hx0, k5, hold, by rw [← k7, (h2 y hold).1]⟩
      have hxt : x ≠ t := by rintro rfl; omega
      have hyt : y ≠ t := by rintro rfl; omega
      have h7 := p7 q k1 hcq
      rcases k3.2 with ⟨e1, e2⟩ | ⟨e1, e2⟩
      · rw [e1, e2] at h7
        exact h7.elim hxt hyt
      · rw [e1, e2] at h7
        exact h7.elim hyt hxt
  · rw [va_up_self, ct.2]
    have hyt : y ≠ t := by rintro rfl; omega
    have hyo : y ≠ o := by
      rintro rfl
      have := (h2 y hy).1
      omega
    have hqk : x = t ∨ num' x = 0 → q ≠ k := fun _ e => by
      subst e
      rcases he.2 with ⟨-, e3⟩ | ⟨-, e3⟩ <;> rcases he0.2 with ⟨e4, e5⟩ | ⟨e4, e5⟩ <;> first | exact hyo (e3.symm.trans e5) | exact hyt (e3.symm.trans e4)
    rcases hnew x h0 hx with ⟨e1, e2⟩ | ⟨e1, e2⟩
    · have := h9 q x y hq hc he h0 e1 (fun ex => by have := ht ex; have := hqk (Or.inl ex); omega) hy
      omega
    · have hq9 := hqk (Or.inr e1)
      have := c8 q x y hq (fun e9 => hq9 ((nI_eq (by omega) (by omega)).mp e9)) he e1 e2 (by rw [(h2 y hy).1]; exact hy)
      rw [(h2 y hy).1] at this
      omega
  · rw [c9, h10, hbr]
    have hs := cE_split (v := v) (A := nw num num') (B := nw num' num2) (C := nw num num2) (k := k) (d := if brB v k = true then 1 else 0) (v 1) (fun q hq => by
      have hAB : ∀ y, nw num num2 y = (nw num num' y || nw num' num2 y) := fun y => by
        apply Bool.eq_iff_iff.mpr
        rw [Bool.or_eq_true, nw_iff, nw_iff, nw_iff]
        constructor
        · rintro ⟨h0, hy⟩
          rcases hnew y h0 hy with ⟨e1, e2⟩ | ⟨e1, e2⟩
          · exact Or.inl ⟨h0, e1⟩
          · exact Or.inr ⟨e1, e2⟩
        · rintro (⟨h0, hy⟩ | ⟨h0, hy⟩)
          · exact ⟨h0, by rw [(c2 y hy).1]; exact hy⟩
          · exact ⟨num0 y h0, hy⟩
      have hdis : ∀ y, nw num num' y = true → nw num' num2 y = false := fun y hy => by
        have h9 := (nw_iff.mp hy).2
        cases e : nw num' num2 y with
        | false => rfl
        | true => have := (nw_iff.mp e).1; omega
      -- a pipe between both parts that is a bridge is k
      have hmix : ∀ x z, edg v q x z → nw num num' x = true → nw num' num2 z = true → brB v q = true → q = k := fun x z he hx hz hb => by
        have hx := nw_iff.mp hx
        have hz := nw_iff.mp hz
        have hxt : x = t := by
          apply Classical.byContradiction
          intro hne
          have := h5 x hx.1 hx.2 hne q z hq he
          omega
        subst hxt
        apply Classical.byContradiction
        intro hne
        have w1 := inside q x z hq ht' (he.2.elim (fun h => Or.inl h.1) (fun h => Or.inr h.1)) hz.1 hz.2
        have w2 := edg.conn hI hk hq (Ne.symm hne) he0
        rw [br_conn hI hq he (w2.trans w1)] at hb
        cases hb
      by_cases hb : brB v q = true
      · unfold bE
        rw [hb, hAB, hAB, Bool.true_and, Bool.true_and, Bool.true_and]
        by_cases hqk : q = k
        · subst hqk
          rw [if_pos rfl, if_pos hb]
          have hto : ∀ y, (y = t → nw num num' y = true ∧ nw num' num2 y = false) ∧ (y = o → nw num num' y = false ∧ nw num' num2 y = true) := fun y => by
            refine ⟨?_, ?_⟩
            · rintro rfl
              exact ⟨nw_iff.mpr ⟨p1, ht'⟩, hdis _ (nw_iff.mpr ⟨p1, ht'⟩)⟩
            · rintro rfl
              have h9 : nw num' num2 y = true := nw_iff.mpr ⟨ho, ho2⟩
              refine ⟨?_, h9⟩
              cases e : nw num num' y with
              | false => rfl
              | true => rw [hdis y e] at h9; cases h9
          rcases he0.2 with ⟨e1, e2⟩ | ⟨e1, e2⟩
          · have q1 := (hto (pA v q)).1 e1
            have q2 := (hto (pB v q)).2 e2
            rw [q1.1, q1.2, q2.1, q2.2]
            rfl
          · have q1 := (hto (pB v q)).1 e1
            have q2 := (hto (pA v q)).2 e2
            rw [q1.1, q1.2, q2.1, q2.2]
            rfl
        · rw [if_neg hqk]
          have hop : opn (pV v q) (pD v q) = true := by
            unfold brB at hb
            rw [Bool.and_eq_true] at hb
            exact hb.1
          have m1 := hmix (pA v q) (pB v q) ⟨hop, Or.inl ⟨rfl, rfl⟩⟩
          have m2 := hmix (pB v q) (pA v q) ⟨hop, Or.inr ⟨rfl, rfl⟩⟩
          have d1 := hdis (pA v q)
          have d2 := hdis (pB v q)
          cases a1 : nw num num' (pA v q) <;> cases a2 : nw num num' (pB v q) <;> cases b1 : nw num' num2 (pA v q) <;> cases b2 : nw num' num2 (pB v q) <;> first | rfl | (exact absurd (m1 a1 b2 hb) hqk) | (exact absurd (m2 a2 b1 hb) hqk) | (rw [d1 a1] at b1; cases b1) | (rw [d2 a2] at b2; cases b2)
      · have hb : brB v q = false := by cases e : brB v q with
          | true => exact absurd e hb
          | false => rfl
        unfold bE
        rw [hb, Bool.false_and, Bool.false_and, Bool.false_and]
        by_cases hqk : q = k
        · subst hqk
          rw [hb]
          simp
        · rw [if_neg hqk]
          rfl)
    rw [hs, if_pos hk]
    omega
