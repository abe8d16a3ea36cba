/-! ===== sets that go through pipes: pure ===== -/
set_option maxRecDepth 100000
/-- closed under going through open pipes -/
def stp (v : Nat → Nat) (S : Nat → Nat → Prop) : Prop := ∀ k, k < v 1 → opn (pV v k) (pD v k) = true → ∀ t x, tch (pA v k) (pB v k) t = true → S t x → S (oth (pA v k) (pB v k) t) (clr x (pM v k))
/-- with the set x tank t is reached from a with the set x0 -/
def RC (v : Nat → Nat) (a x0 t x : Nat) : Prop := ∀ S : Nat → Nat → Prop, S a x0 → stp v S → S t x
def dn (st j : Nat) : Int32 := if j ≤ st then nI (st - j) else -1
theorem dn_succ {st j : Nat} (h : j ≤ st) : nI (st - j) + (-1) = dn st (j + 1) := by
  unfold dn
  by_cases e : j + 1 ≤ st
  · rw [if_pos e]
    exact dec_nI (by omega) (by omega)
  · rw [if_neg e, show st - j = 0 by omega]
    decide
/-- within one pass through pipe q from t, j sets looked at, from st downwards: f at first, f' now, nw whether something was new -/
def PS (v : Nat → Nat) (q t st : Nat) (f f' : Nat → Int64) (nw : Bool) (j : Nat) : Prop :=
  (∀ i y, rhas f i y = true → y < 256 → rhas f' i y = true) ∧
  (∀ S : Nat → Nat → Prop, (∀ x, S t x → S (oth (pA v q) (pB v q) t) (clr x (pM v q))) → (∀ i y, y < 256 → rhas f i y = true → S i y) → ∀ i y, y < 256 → rhas f' i y = true → S i y) ∧
  (nw = false → ∀ i y, y < 256 → rhas f' i y = rhas f i y) ∧
  (nw = true → ∃ y, y < 256 ∧ rhas f' (oth (pA v q) (pB v q) t) y = true ∧ rhas f (oth (pA v q) (pB v q) t) y = false) ∧
  (∀ y, y < 256 → rhas f' t y = rhas f t y) ∧
  ∀ x, x ≤ st → st < x + j → rhas f t x = true → rhas f' (oth (pA v q) (pB v q) t) (clr x (pM v q)) = true
theorem PS.start {v : Nat → Nat} {q t st : Nat} {f : Nat → Int64} : PS v q t st f f false 0 :=
  ⟨fun _ _ h _ => h, fun _ _ h => h, fun _ _ _ _ => rfl, fun h => (nomatch h), fun _ _ => rfl, fun x h1 h2 => absurd h2 (by omega)⟩
theorem PS.skip {v : Nat → Nat} {q t st : Nat} {f f' : Nat → Int64} {nw : Bool} {j : Nat} (h : PS v q t st f f' nw j) (hj : j ≤ st) (h256 : st < 256) (hs : rhas f' t (st - j) = false) : PS v q t st f f' nw (j + 1) := by
  obtain ⟨h1, h2, h3, h4, h5, h6⟩ := h
  refine ⟨h1, h2, h3, h4, h5, fun x hx hx2 hr => ?_⟩
  by_cases e : x = st - j
  · rw [← e, h5 x (by omega), hr] at hs
    cases hs
  · exact h6 x hx (by omega) hr
theorem PS.step {v : Nat → Nat} {q t st : Nat} {f f' : Nat → Int64} {nw : Bool} {j : Nat} (h : PS v q t st f f' nw j) (hj : j ≤ st) (h256 : st < 256) (hne : oth (pA v q) (pB v q) t ≠ t) (hM : pM v q < 256) (hs : rhas f' t (st - j) = true) :
    PS v q t st f (radd f' (oth (pA v q) (pB v q) t) (clr (st - j) (pM v q))) (!rhas f' (oth (pA v q) (pB v q) t) (clr (st - j) (pM v q)) || nw) (j + 1) := by
  obtain ⟨h1, h2, h3, h4, h5, h6⟩ := h
  have hc : clr (st - j) (pM v q) < 256 := clr_lt (by omega)
  refine ⟨fun i y hy hy2 => ?_, fun S hS hb i y hy hr => ?_, fun hn i y hy => ?_, fun hn => ?_, fun y hy => ?_, fun x hx hx2 hr => ?_⟩
  · rw [rhas_radd hc hy2, h1 i y hy hy2, Bool.or_true]
  · rw [rhas_radd hc hy, Bool.or_eq_true] at hr
    rcases hr with hr | hr
    · obtain ⟨e1, e2⟩ := of_decide_eq_true hr
      rw [← e1, ← e2]
      exact hS _ (h2 S hS hb t (st - j) (by omega) hs)
    · exact h2 S hS hb i y hy hr
  · rw [Bool.or_eq_false_iff, Bool.not_eq_false'] at hn
    rw [rhas_radd hc hy, ← h3 hn.2 i y hy]
    by_cases e : oth (pA v q) (pB v q) t = i ∧ clr (st - j) (pM v q) = y
    · obtain ⟨e1, e2⟩ := e
      rw [← e1, ← e2, hn.1, Bool.or_true]
    · rw [decide_eq_false e, Bool.false_or]
  · cases hh : rhas f' (oth (pA v q) (pB v q) t) (clr (st - j) (pM v q)) with
    | false =>
      refine ⟨clr (st - j) (pM v q), hc, ?_, ?_⟩
      · rw [rhas_radd hc hc, decide_eq_true ⟨rfl, rfl⟩, Bool.true_or]
      · cases hf : rhas f (oth (pA v q) (pB v q) t) (clr (st - j) (pM v q)) with
        | false => rfl
        | true => rw [h1 _ _ hf hc] at hh; cases hh
    | true =>
      rw [hh] at hn
      obtain ⟨y, hy, k1, k2⟩ := h4 hn
      exact ⟨y, hy, by rw [rhas_radd hc hy, k1, Bool.or_true], k2⟩
  · rw [rhas_radd hc hy, decide_eq_false (fun e => hne e.1), Bool.false_or, h5 y hy]
  · have hcx : clr x (pM v q) < 256 := clr_lt (by omega)
    rw [rhas_radd hc hcx]
    by_cases e : x = st - j
    · rw [e, decide_eq_true ⟨rfl, rfl⟩, Bool.true_or]
    · rw [h6 x hx (by omega) hr, Bool.or_true]
/-- how many of the 8 * 256 are not reached -/
def unr (f : Nat → Int64) : Nat := unvN (fun z => rhas f (z / 256) (z % 256)) 2048
/-- sound: what is reached is reachable, with a set not above st -/
def RS (v : Nat → Nat) (a st : Nat) (f : Nat → Int64) : Prop := ∀ i y, y < 256 → rhas f i y = true → RC v a st i y ∧ y ≤ st ∧ i < v 0
/-- within one turn, k pipes done: f at first, f' now, ch whether something has changed -/
def RP (v : Nat → Nat) (a st : Nat) (f f' : Nat → Int64) (ch : Bool) (k : Nat) : Prop :=
  RS v a st f' ∧ (∀ i y, y < 256 → rhas f i y = true → rhas f' i y = true) ∧
  (ch = false → (∀ i y, y < 256 → rhas f' i y = rhas f i y) ∧ ∀ p, p < k → opn (pV v p) (pD v p) = true → ∀ t x, x ≤ st → tch (pA v p) (pB v p) t = true → rhas f t x = true → rhas f (oth (pA v p) (pB v p) t) (clr x (pM v p)) = true) ∧
  (ch = true → ∃ i y, i < 8 ∧ y < 256 ∧ rhas f' i y = true ∧ rhas f i y = false)
theorem RP.start {v : Nat → Nat} {a st : Nat} {f : Nat → Int64} (h : RS v a st f) : RP v a st f f false 0 :=
  ⟨h, fun _ _ _ h => h, fun _ => ⟨fun _ _ _ => rfl, fun p hp => absurd hp (by omega)⟩, fun h => (nomatch h)⟩
theorem RP.skip {v : Nat → Nat} {a st : Nat} {f f' : Nat → Int64} {ch : Bool} {k : Nat} (h : RP v a st f f' ch k) (ho : opn (pV v k) (pD v k) = false) : RP v a st f f' ch (k + 1) := by
  obtain ⟨h1, h2, h3, h4⟩ := h
  refine ⟨h1, h2, fun hc => ⟨(h3 hc).1, fun p hp hop => ?_⟩, h4⟩
  by_cases e : p = k
  · rw [e, ho] at hop; cases hop
  · exact (h3 hc).2 p (by omega) hop
/-- after both passes through an open pipe -/
theorem RP.step {v : Nat → Nat} (hI : Inv v) {a st : Nat} {f f1 f2 f3 : Nat → Int64} {ch n1 n2 : Bool} {k : Nat} (hst : st < 256) (h : RP v a st f f1 ch k) (hk : k < v 1) (ho : opn (pV v k) (pD v k) = true) (hA : PS v k (pA v k) st f1 f2 n1 (st + 1)) (hB : PS v k (pB v k) st f2 f3 n2 (st + 1)) : RP v a st f f3 (n2 || (n1 || ch)) (k + 1) := by
  obtain ⟨h1, h2, h3, h4⟩ := h
  obtain ⟨pA0, pB0, hne, pM0, -⟩ := hI.pp hk
  have h8 := hI.1
  have oA : oth (pA v k) (pB v k) (pA v k) = pB v k := oth_a
  have oB : oth (pA v k) (pB v k) (pB v k) = pA v k := oth_b hne
  obtain ⟨a1, a2, a3, a4, a5, a6⟩ := hA
  obtain ⟨b1, b2, b3, b4, b5, b6⟩ := hB
  rw [oA] at a4 a6
  rw [oB] at b4 b6
  have st1 : ∀ t, tch (pA v k) (pB v k) t = true → ∀ x, (RC v a st t x ∧ x ≤ st ∧ t < v 0) → (RC v a st (oth (pA v k) (pB v k) t) (clr x (pM v k)) ∧ clr x (pM v k) ≤ st ∧ oth (pA v k) (pB v k) t < v 0) := fun t ht x ⟨q1, q2, q3⟩ =>
    ⟨fun S hS hc => hc k hk ho t x ht (q1 S hS hc), Nat.le_trans clr_le q2, by unfold oth; split <;> assumption⟩
  have s2 : RS v a st f2 := fun i y hy hr => a2 (fun i y => RC v a st i y ∧ y ≤ st ∧ i < v 0) (fun x hx => st1 _ (decide_eq_true (Or.inl rfl)) x hx) (fun i y hy hr => h1 i y hy hr) i y hy hr
  have s3 : RS v a st f3 := fun i y hy hr => b2 (fun i y => RC v a st i y ∧ y ≤ st ∧ i < v 0) (fun x hx => st1 _ (decide_eq_true (Or.inr rfl)) x hx) (fun i y hy hr => s2 i y hy hr) i y hy hr
  refine ⟨s3, fun i y hy hr => b1 i y (a1 i y (h2 i y hy hr) hy) hy, fun hc => ?_, fun hc => ?_⟩
  · rw [Bool.or_eq_false_iff, Bool.or_eq_false_iff] at hc
    obtain ⟨c2, c1, c0⟩ := hc
    have e1 := (h3 c0).1
    have e2 := a3 c1
    have e3 := b3 c2
    refine ⟨fun i y hy => by rw [e3 i y hy, e2 i y hy, e1 i y hy], fun p hp hop t x hx ht hr => ?_⟩
    by_cases e : p = k
    · subst e
      have hcl : clr x (pM v p) < 256 := clr_lt (by omega)
      rcases tch_oth ht hne with ⟨q, -⟩ | ⟨q, -⟩
      · subst q
        rw [oA, ← e1 _ _ hcl, ← e2 _ _ hcl]
        exact a6 x hx (by omega) (by rw [e1 _ _ (by omega)]; exact hr)
      · subst q
        rw [oB, ← e1 _ _ hcl, ← e2 _ _ hcl, ← e3 _ _ hcl]
        exact b6 x hx (by omega) (by rw [e2 _ _ (by omega), e1 _ _ (by omega)]; exact hr)
    · exact (h3 c0).2 p (by omega) hop t x hx ht hr
  · by_cases c0 : ch = true
    · obtain ⟨i, y, q1, q2, q3, q4⟩ := h4 c0
      exact ⟨i, y, q1, q2, b1 i y (a1 i y q3 q2) q2, q4⟩
    · have c0 : ch = false := by cases ch with
        | true => exact absurd rfl c0
        | false => rfl
      have e1 := (h3 c0).1
      by_cases c1 : n1 = true
      · obtain ⟨y, q2, q3, q4⟩ := a4 c1
        exact ⟨pB v k, y, by omega, q2, b1 _ y q3 q2, by rw [← e1 _ _ q2]; exact q4⟩
      · have c1 : n1 = false := by cases n1 with
          | true => exact absurd rfl c1
          | false => rfl
        have e2 := a3 c1
        rw [c0, c1, Bool.or_false, Bool.or_false] at hc
        obtain ⟨y, q2, q3, q4⟩ := b4 hc
        exact ⟨pA v k, y, by omega, q2, q3, by rw [← e1 _ _ q2, ← e2 _ _ q2]; exact q4⟩
theorem RP.less {v : Nat → Nat} {a st : Nat} {f f' : Nat → Int64} {k : Nat} (h : RP v a st f f' true k) : unr f' < unr f := by
  obtain ⟨i, y, q1, q2, q3, q4⟩ := h.2.2.2 rfl
  have e1 : (256 * i + y) / 256 = i := by omega
  have e2 : (256 * i + y) % 256 = y := by omega
  exact unvN_lt (fun z hz => h.2.1 _ _ (Nat.mod_lt _ (by decide)) hz) (t := 256 * i + y) (by show rhas f _ _ = false; rw [e1, e2]; exact q4) (by show rhas f' _ _ = true; rw [e1, e2]; exact q3) 2048 (by omega)
/-- nothing new in a whole turn: all is reached -/
theorem RP.done {v : Nat → Nat} (hI : Inv v) {a st : Nat} {f f' : Nat → Int64} (hst : st < 256) (h : RP v a st f f' false (v 1)) (h0 : rhas f a st = true) {t x : Nat} (hx : x < 256) : rhas f' t x = true ↔ RC v a st t x := by
  obtain ⟨h1, h2, h3, -⟩ := h
  obtain ⟨h3, h4⟩ := h3 rfl
  refine ⟨fun hr => (h1 t x hx hr).1, fun hr => ?_⟩
  have := hr (fun t x => x < 256 ∧ rhas f t x = true) ⟨hst, h0⟩ (fun k hk ho t x ht ⟨q1, q2⟩ =>
    ⟨clr_lt q1, h4 k hk ho t x (h1 t x q1 (h2 t x q1 q2)).2.1 ht q2⟩)
  exact h2 t x hx this.2
theorem rhas_0 {t x : Nat} (hx : x < 256) : rhas (fun _ => 0) t x = false := lbit_0 hx
theorem RS.start {v : Nat → Nat} {a st : Nat} (ha : a < v 0) (hst : st < 256) : RS v a st (radd (fun _ => 0) a st) := fun i y hy hr => by
  rw [rhas_radd hst hy, rhas_0 hy, Bool.or_false] at hr
  obtain ⟨e1, e2⟩ := of_decide_eq_true hr
  subst e1 e2
  exact ⟨fun S h _ => h, Nat.le_refl _, ha⟩
