/-! ===== the search's queue: pure ===== -/
set_option maxRecDepth 100000
def cnt (P : Nat → Bool) : Nat → Nat
  | 0 => 0
  | n + 1 => cnt P n + if P n = true then 1 else 0
theorem cnt_congr {P P' : Nat → Bool} : ∀ n, (∀ z, z < n → P z = P' z) → cnt P n = cnt P' n
  | 0, _ => rfl
  | n + 1, h => by rw [cnt, cnt, cnt_congr n (fun z hz => h z (by omega)), h n (by omega)]
theorem cnt_del {P : Nat → Bool} {w : Nat} : ∀ n, w < n → P w = true → cnt (fun z => P z && decide (z ≠ w)) n + 1 = cnt P n
  | 0, h, _ => absurd h (by omega)
  | n + 1, h, hw => by
    rw [cnt, cnt]
    by_cases e : w = n
    · subst e
      rw [cnt_congr (P := fun z => P z && decide (z ≠ w)) (P' := P) w (fun z hz => by rw [decide_eq_true (by omega), Bool.and_true]), hw]
      simp
    · have ih := cnt_del n (by omega) hw
      have e2 : (P n && decide (n ≠ w)) = P n := by rw [decide_eq_true (Ne.symm e), Bool.and_true]
      rw [e2]
      omega
/-- different numbers below N, each of P: at most as many as P has -/
theorem cnt_inj {N : Nat} : ∀ (m : Nat) (P : Nat → Bool) (q : Nat → Nat), (∀ e, e < m → q e < N ∧ P (q e) = true) → (∀ e e', e < e' → e' < m → q e ≠ q e') → m ≤ cnt P N
  | 0, _, _, _, _ => Nat.zero_le _
  | m + 1, P, q, h, hd => by
    obtain ⟨h1, h2⟩ := h m (by omega)
    have h3 := cnt_del (P := P) N h1 h2
    have := cnt_inj m (fun z => P z && decide (z ≠ q m)) q (fun e he => by
      obtain ⟨k1, k2⟩ := h e (by omega)
      exact ⟨k1, by rw [k2, decide_eq_true (hd e m he (by omega)), Bool.true_and]⟩) (fun e e' h1 h2 => hd e e' h1 (by omega))
    omega
theorem sub256 : ∀ st, st < 256 → cnt (fun x => x &&& st == x) 256 = 2 ^ pops st := by decide +kernel
theorem cnt_add {P : Nat → Bool} {a : Nat} : ∀ n, cnt P (a + n) = cnt P a + cnt (fun z => P (a + z)) n
  | 0 => rfl
  | n + 1 => by
    rw [← Nat.add_assoc, cnt, cnt, cnt_add n]
    omega
theorem cnt_rows {st : Nat} (hst : st < 256) : ∀ n, cnt (fun z => z % 256 &&& st == z % 256) (256 * n) = n * 2 ^ pops st
  | 0 => by simp [cnt]
  | n + 1 => by
    rw [Nat.mul_succ, cnt_add, cnt_rows hst n]
    have : cnt (fun z => (256 * n + z) % 256 &&& st == (256 * n + z) % 256) 256 = cnt (fun x => x &&& st == x) 256 := cnt_congr 256 (fun z hz => by
      rw [show (256 * n + z) % 256 = z by omega])
    rw [this, sub256 st hst, Nat.succ_mul]
theorem clr_sub : ∀ {x m st : Nat}, x &&& st = x → clr x m &&& st = clr x m := by
  intro x m st h
  unfold clr
  rw [Nat.and_assoc, Nat.and_comm (255 ^^^ m) st, ← Nat.and_assoc, h]
/-- within the search: f what is reached, q the queue (256 * tank + set), e its end -/
def BQ (v : Nat → Nat) (a st : Nat) (f : Nat → Int64) (q : Nat → Nat) (e : Nat) : Prop :=
  RS v a st f ∧ (∀ i y, y < 256 → rhas f i y = true → y &&& st = y) ∧
  (∀ j, j < e → q j < 256 * v 0 ∧ rhas f (q j / 256) (q j % 256) = true) ∧
  (∀ i y, y < 256 → rhas f i y = true → ∃ j, j < e ∧ q j = 256 * i + y) ∧
  ∀ j j', j < j' → j' < e → q j ≠ q j'
theorem BQ.start {v : Nat → Nat} {a st : Nat} {q0 : Nat → Nat} (ha : a < v 0) (hst : st < 256) : BQ v a st (radd (fun _ => 0) a st) (va_up q0 0 (256 * a + st)) 1 := by
  have k : ∀ i y, y < 256 → rhas (radd (fun _ => 0) a st) i y = true → a = i ∧ st = y := fun i y hy hr => by
    rw [rhas_radd hst hy, rhas_0 hy, Bool.or_false] at hr
    exact of_decide_eq_true hr
  refine ⟨RS.start ha hst, fun i y hy hr => ?_, fun j hj => ?_, fun i y hy hr => ?_, fun j j' h1 h2 => absurd h2 (by omega)⟩
  · obtain ⟨-, e⟩ := k i y hy hr
    rw [← e, Nat.and_self]
  · have : j = 0 := by omega
    subst this
    rw [va_up_self, show (256 * a + st) / 256 = a by omega, show (256 * a + st) % 256 = st by omega, rhas_radd hst hst, decide_eq_true ⟨rfl, rfl⟩, Bool.true_or]
    exact ⟨by omega, rfl⟩
  · obtain ⟨e1, e2⟩ := k i y hy hr
    exact ⟨0, by omega, by rw [va_up_self, e1, e2]⟩
theorem BQ.bound {v : Nat → Nat} {a st : Nat} {f : Nat → Int64} {q : Nat → Nat} {e : Nat} (hst : st < 256) (h : BQ v a st f q e) : e ≤ v 0 * 2 ^ pops st := by
  obtain ⟨h1, h2, h3, h4, h5⟩ := h
  rw [← cnt_rows hst]
  exact cnt_inj e _ q (fun j hj => ⟨(h3 j hj).1, by
    have := h2 _ _ (Nat.mod_lt _ (by decide)) (h3 j hj).2
    simp [this]⟩) h5
/-- one more -/
theorem BQ.next {v : Nat → Nat} {a st : Nat} {f : Nat → Int64} {q : Nat → Nat} {e t x : Nat} (h : BQ v a st f q e) (hx : x < 256) (hr : RC v a st t x ∧ x ≤ st ∧ t < v 0) (hs : x &&& st = x) (hn : rhas f t x = false) : BQ v a st (radd f t x) (va_up q e (256 * t + x)) (e + 1) := by
  obtain ⟨h1, h2, h3, h4, h5⟩ := h
  have hq : ∀ j, j < e → q j ≠ 256 * t + x := fun j hj e9 => by
    have := (h3 j hj).2
    rw [e9, show (256 * t + x) / 256 = t by omega, show (256 * t + x) % 256 = x by omega, hn] at this
    cases this
  refine ⟨fun i y hy hy2 => ?_, fun i y hy hy2 => ?_, fun j hj => ?_, fun i y hy hy2 => ?_, fun j j' hj hj' => ?_⟩
  · rw [rhas_radd hx hy, Bool.or_eq_true] at hy2
    rcases hy2 with hy2 | hy2
    · obtain ⟨e1, e2⟩ := of_decide_eq_true hy2
      rw [← e1, ← e2]; exact hr
    · exact h1 i y hy hy2
  · rw [rhas_radd hx hy, Bool.or_eq_true] at hy2
    rcases hy2 with hy2 | hy2
    · obtain ⟨e1, e2⟩ := of_decide_eq_true hy2
      rw [← e2]; exact hs
    · exact h2 i y hy hy2
  · by_cases e9 : j = e
    · rw [e9, va_up_self, show (256 * t + x) / 256 = t by omega, show (256 * t + x) % 256 = x by omega, rhas_radd hx hx, decide_eq_true ⟨rfl, rfl⟩, Bool.true_or]
      exact ⟨by have := hr.2.2; omega, rfl⟩
    · obtain ⟨k1, k2⟩ := h3 j (by omega)
      rw [va_up_ne _ _ e9, rhas_radd hx (Nat.mod_lt _ (by decide)), k2, Bool.or_true]
      exact ⟨k1, rfl⟩
  · rw [rhas_radd hx hy, Bool.or_eq_true] at hy2
    rcases hy2 with hy2 | hy2
    · obtain ⟨e1, e2⟩ := of_decide_eq_true hy2
      exact ⟨e, by omega, by rw [va_up_self, e1, e2]⟩
    · obtain ⟨j, k1, k2⟩ := h4 i y hy hy2
      exact ⟨j, by omega, by rw [va_up_ne _ _ (by omega)]; exact k2⟩
  · rw [va_up_ne _ _ (show j ≠ e by omega)]
    by_cases e9 : j' = e
    · rw [e9, va_up_self]; exact hq j (by omega)
    · rw [va_up_ne _ _ e9]; exact h5 j j' hj (by omega)
/-- adding what is there changes nothing that is asked -/
theorem BQ.same {v : Nat → Nat} {a st : Nat} {f : Nat → Int64} {q : Nat → Nat} {e t x : Nat} (h : BQ v a st f q e) (hx : x < 256) (hn : rhas f t x = true) : BQ v a st (radd f t x) q e ∧ ∀ i y, y < 256 → rhas (radd f t x) i y = rhas f i y := by
  have k : ∀ i y, y < 256 → rhas (radd f t x) i y = rhas f i y := fun i y hy => by
    rw [rhas_radd hx hy]
    by_cases e9 : t = i ∧ x = y
    · obtain ⟨e1, e2⟩ := e9
      rw [← e1, ← e2, hn, Bool.or_true]
    · rw [decide_eq_false e9, Bool.false_or]
  obtain ⟨h1, h2, h3, h4, h5⟩ := h
  exact ⟨⟨fun i y hy hr => h1 i y hy (by rw [← k i y hy]; exact hr), fun i y hy hr => h2 i y hy (by rw [← k i y hy]; exact hr), fun j hj => ⟨(h3 j hj).1, by rw [k _ _ (Nat.mod_lt _ (by decide))]; exact (h3 j hj).2⟩, fun i y hy hr => h4 i y hy (by rw [← k i y hy]; exact hr), h5⟩, k⟩
/-- what stands at place j of the queue has gone through pipe p -/
def gone (v : Nat → Nat) (f : Nat → Int64) (q : Nat → Nat) (j p : Nat) : Prop := opn (pV v p) (pD v p) = true → tch (pA v p) (pB v p) (q j / 256) = true → rhas f (oth (pA v p) (pB v p) (q j / 256)) (clr (q j % 256) (pM v p)) = true
def SI (v : Nat → Nat) (a st : Nat) (f : Nat → Int64) (q : Nat → Nat) (e c k : Nat) : Prop := BQ v a st f q e ∧ c < e ∧ rhas f a st = true ∧ (∀ j p, j < c → p < v 1 → gone v f q j p) ∧ ∀ p, p < k → gone v f q c p
def SO (v : Nat → Nat) (a st : Nat) (f : Nat → Int64) (q : Nat → Nat) (e c : Nat) : Prop := BQ v a st f q e ∧ c ≤ e ∧ rhas f a st = true ∧ ∀ j p, j < c → p < v 1 → gone v f q j p
theorem SO.start {v : Nat → Nat} {a st : Nat} {q0 : Nat → Nat} (ha : a < v 0) (hst : st < 256) : SO v a st (radd (fun _ => 0) a st) (va_up q0 0 (256 * a + st)) 1 0 :=
  ⟨BQ.start ha hst, by omega, by rw [rhas_radd hst hst, decide_eq_true ⟨rfl, rfl⟩, Bool.true_or], fun j p hj => absurd hj (by omega)⟩
theorem SO.go {v : Nat → Nat} {a st : Nat} {f : Nat → Int64} {q : Nat → Nat} {e c : Nat} (h : SO v a st f q e c) (hc : c < e) : SI v a st f q e c 0 := ⟨h.1, hc, h.2.2.1, h.2.2.2, fun p hp => absurd hp (by omega)⟩
theorem SI.done {v : Nat → Nat} {a st : Nat} {f : Nat → Int64} {q : Nat → Nat} {e c : Nat} (h : SI v a st f q e c (v 1)) : SO v a st f q e (c + 1) := ⟨h.1, h.2.1, h.2.2.1, fun j p hj hp => by
  by_cases e9 : j = c
  · rw [e9]; exact h.2.2.2.2 p hp
  · exact h.2.2.2.1 j p (by omega) hp⟩
theorem SI.skip {v : Nat → Nat} {a st : Nat} {f : Nat → Int64} {q : Nat → Nat} {e c k : Nat} (h : SI v a st f q e c k) (hk : (opn (pV v k) (pD v k) && tch (pA v k) (pB v k) (q c / 256)) = false) : SI v a st f q e c (k + 1) := ⟨h.1, h.2.1, h.2.2.1, h.2.2.2.1, fun p hp h1 h2 => by
  by_cases e9 : p = k
  · subst e9; rw [h1, h2] at hk; cases hk
  · exact h.2.2.2.2 p (by omega) h1 h2⟩
theorem SI.what {v : Nat → Nat} {a st : Nat} {f : Nat → Int64} {q : Nat → Nat} {e c k : Nat} (h : SI v a st f q e c k) (hk : k < v 1) (ho : (opn (pV v k) (pD v k) && tch (pA v k) (pB v k) (q c / 256)) = true) (hI : Inv v) : (RC v a st (oth (pA v k) (pB v k) (q c / 256)) (clr (q c % 256) (pM v k)) ∧ clr (q c % 256) (pM v k) ≤ st ∧ oth (pA v k) (pB v k) (q c / 256) < v 0) ∧ clr (q c % 256) (pM v k) &&& st = clr (q c % 256) (pM v k) := by
  rw [Bool.and_eq_true] at ho
  obtain ⟨h1, h2, h3, -, -⟩ := h.1
  have hy := Nat.mod_lt (q c) (show 256 > 0 by decide)
  obtain ⟨r1, r2, r3⟩ := h1 _ _ hy (h3 c h.2.1).2
  obtain ⟨p1, p2, -⟩ := hI.pp hk
  exact ⟨⟨fun S hS hcl => hcl k hk ho.1 _ _ ho.2 (r1 S hS hcl), Nat.le_trans clr_le r2, by unfold oth; split <;> assumption⟩, clr_sub (h2 _ _ hy (h3 c h.2.1).2)⟩
theorem gone.mono {v : Nat → Nat} {f : Nat → Int64} {q q' : Nat → Nat} {j p t x : Nat} (h : gone v f q j p) (hx : x < 256) (hq : q' j = q j) : gone v (radd f t x) q' j p := fun h1 h2 => by
  rw [hq] at h2 ⊢
  rw [rhas_radd hx (clr_lt (Nat.mod_lt _ (by decide))), h h1 h2, Bool.or_true]
theorem SI.new {v : Nat → Nat} (hI : Inv v) {a st : Nat} (hst : st < 256) {f : Nat → Int64} {q : Nat → Nat} {e c k : Nat} (h : SI v a st f q e c k) (hk : k < v 1) (ho : (opn (pV v k) (pD v k) && tch (pA v k) (pB v k) (q c / 256)) = true) (hn : rhas f (oth (pA v k) (pB v k) (q c / 256)) (clr (q c % 256) (pM v k)) = false) :
    SI v a st (radd f (oth (pA v k) (pB v k) (q c / 256)) (clr (q c % 256) (pM v k))) (va_up q e (256 * oth (pA v k) (pB v k) (q c / 256) + clr (q c % 256) (pM v k))) (e + 1) c (k + 1) := by
  obtain ⟨w1, w2⟩ := h.what hk ho hI
  have hx : clr (q c % 256) (pM v k) < 256 := clr_lt (Nat.mod_lt _ (by decide))
  have hc := h.2.1
  have hq : ∀ j, j < e → va_up q e (256 * oth (pA v k) (pB v k) (q c / 256) + clr (q c % 256) (pM v k)) j = q j := fun j hj => va_up_ne _ _ (by omega)
  refine ⟨h.1.next hx w1 w2 hn, by omega, ?_, fun j p hj hp => (h.2.2.2.1 j p hj hp).mono hx (hq j (by omega)), fun p hp => ?_⟩
  · rw [rhas_radd hx hst, h.2.2.1, Bool.or_true]
  · by_cases e9 : p = k
    · subst e9
      intro _ _
      rw [hq c hc, rhas_radd hx hx, decide_eq_true ⟨rfl, rfl⟩, Bool.true_or]
    · exact (h.2.2.2.2 p (by omega)).mono hx (hq c hc)
theorem SI.old {v : Nat → Nat} {a st : Nat} (hst : st < 256) {f : Nat → Int64} {q : Nat → Nat} {e c k : Nat} (h : SI v a st f q e c k) (hn : rhas f (oth (pA v k) (pB v k) (q c / 256)) (clr (q c % 256) (pM v k)) = true) :
    SI v a st (radd f (oth (pA v k) (pB v k) (q c / 256)) (clr (q c % 256) (pM v k))) q e c (k + 1) := by
  have hx : clr (q c % 256) (pM v k) < 256 := clr_lt (Nat.mod_lt _ (by decide))
  refine ⟨(h.1.same hx hn).1, h.2.1, ?_, fun j p hj hp => (h.2.2.2.1 j p hj hp).mono hx rfl, fun p hp => ?_⟩
  · rw [rhas_radd hx hst, h.2.2.1, Bool.or_true]
  · by_cases e9 : p = k
    · subst e9
      intro _ _
      rw [rhas_radd hx hx, decide_eq_true ⟨rfl, rfl⟩, Bool.true_or]
    · exact (h.2.2.2.2 p (by omega)).mono hx rfl
theorem SO.fin {v : Nat → Nat} {a st : Nat} (hst : st < 256) {f : Nat → Int64} {q : Nat → Nat} {e : Nat} (h : SO v a st f q e e) {t x : Nat} (hx : x < 256) : rhas f t x = true ↔ RC v a st t x := by
  obtain ⟨⟨h1, h2, h3, h4, h5⟩, -, h6, h7⟩ := h
  refine ⟨fun hr => (h1 t x hx hr).1, fun hr => ?_⟩
  have := hr (fun t x => x < 256 ∧ rhas f t x = true) ⟨hst, h6⟩ (fun k hk ho t x ht ⟨k1, k2⟩ => by
    obtain ⟨j, hj, hq⟩ := h4 t x k1 k2
    have h9 := h7 j k hj hk ho
    rw [hq, show (256 * t + x) / 256 = t by omega, show (256 * t + x) % 256 = x by omega] at h9
    exact ⟨clr_lt k1, h9 ht⟩)
  exact this.2
theorem fwl_congr {f f' : Nat → Int64} {t : Nat} (h : ∀ x, x < 256 → rhas f t x = rhas f' t x) : ∀ n, n ≤ 256 → fwl f t n = fwl f' t n
  | 0, _ => rfl
  | n + 1, hn => by rw [fwl, fwl, fwl_congr h n (by omega), h n (by omega)]
theorem rc_congr {v : Nat → Nat} {a st : Nat} {f f' : Nat → Int64} (h1 : ∀ t x, x < 256 → (rhas f t x = true ↔ RC v a st t x)) (h2 : ∀ t x, x < 256 → (rhas f' t x = true ↔ RC v a st t x)) (t : Nat) : ∀ x, x < 256 → rhas f t x = rhas f' t x := fun x hx =>
  Bool.eq_iff_iff.mpr ((h1 t x hx).trans (h2 t x hx).symm)
