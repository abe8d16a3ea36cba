/-! ===== unions: pure ===== -/
set_option maxRecDepth 100000
/-- a forest of parents P below n: R the roots, dp the depths, c a bound of the depths -/
def UF (P R dp : Nat → Nat) (n c : Nat) : Prop := ∀ j, j < n → P j < n ∧ R j < n ∧ P (R j) = R j ∧ R (P j) = R j ∧ (P j = j → R j = j ∧ dp j = 0) ∧ (P j ≠ j → dp j = dp (P j) + 1) ∧ dp j ≤ c
theorem UF.start {n : Nat} : UF (fun j => j) (fun j => j) (fun _ => 0) n 0 := fun j hj => ⟨hj, hj, rfl, rfl, fun _ => ⟨rfl, rfl⟩, fun h => absurd rfl h, Nat.le_refl _⟩
theorem UF.wide {P R dp : Nat → Nat} {n c c' : Nat} (h : UF P R dp n c) (hc : c ≤ c') : UF P R dp n c' := fun j hj => by
  obtain ⟨h1, h2, h3, h4, h5, h6, h7⟩ := h j hj
  exact ⟨h1, h2, h3, h4, h5, h6, Nat.le_trans h7 hc⟩
theorem UF.union {P R dp : Nat → Nat} {n c a b : Nat} (h : UF P R dp n c) (ha : a < n) (hb : b < n) (pa : P a = a) (pb : P b = b) (hab : a ≠ b) : UF (va_up P b a) (fun j => if R j = b then a else R j) (fun j => if R j = b then dp j + 1 else dp j) n (c + 1) := by
  intro j hj
  obtain ⟨h1, h2, h3, h4, h5, h6, h7⟩ := h j hj
  have ra := ((h a ha).2.2.2.2.1 pa)
  have rb := ((h b hb).2.2.2.2.1 pb)
  refine ⟨?_, ?_, ?_, ?_, fun hp => ?_, fun hp => ?_, ?_⟩
  · unfold va_up; split <;> assumption
  · show (if R j = b then a else R j) < n
    split <;> assumption
  · show va_up P b a (if R j = b then a else R j) = if R j = b then a else R j
    by_cases e : R j = b
    · rw [if_pos e, va_up_ne _ _ hab, pa]
    · rw [if_neg e, va_up_ne _ _ e, h3]
  · show (if R (va_up P b a j) = b then a else R (va_up P b a j)) = if R j = b then a else R j
    by_cases e : j = b
    · rw [e, va_up_self, ra.1, if_neg hab, rb.1, if_pos rfl]
    · rw [va_up_ne _ _ e, h4]
  · by_cases e : j = b
    · rw [e, va_up_self] at hp
      exact absurd hp hab
    · rw [va_up_ne _ _ e] at hp
      obtain ⟨q1, q2⟩ := h5 hp
      show (if R j = b then a else R j) = j ∧ (if R j = b then dp j + 1 else dp j) = 0
      rw [q1, if_neg e, if_neg e]
      exact ⟨rfl, q2⟩
  · show (if R j = b then dp j + 1 else dp j) = (if R (va_up P b a j) = b then dp (va_up P b a j) + 1 else dp (va_up P b a j)) + 1
    by_cases e : j = b
    · rw [e, va_up_self, ra.1, rb.1, if_pos rfl, if_neg hab, ra.2, rb.2]
    · rw [va_up_ne _ _ e] at hp ⊢
      rw [h4, h6 hp]
      split <;> rfl
  · show (if R j = b then dp j + 1 else dp j) ≤ c + 1
    split <;> omega
/-- how many classes, each by its first -/
def grR (R : Nat → Nat) : Nat → Nat
  | 0 => 0
  | n + 1 => grR R n + if (List.range n).any (fun t => decide (R t = R n)) = true then 0 else 1
theorem any_iff {n : Nat} {f : Nat → Bool} : (List.range n).any f = true ↔ ∃ t, t < n ∧ f t = true := by
  rw [List.any_eq_true]
  exact ⟨fun ⟨t, h1, h2⟩ => ⟨t, List.mem_range.mp h1, h2⟩, fun ⟨t, h1, h2⟩ => ⟨t, List.mem_range.mpr h1, h2⟩⟩
theorem grR_id : ∀ n, grR (fun j => j) n = n
  | 0 => rfl
  | n + 1 => by
    rw [grR, grR_id n, if_neg]
    rw [any_iff]
    rintro ⟨t, ht, e⟩
    have := of_decide_eq_true e
    omega
def ind (p : Bool) : Nat := if p = true then 1 else 0
theorem grR_union {R : Nat → Nat} {a b : Nat} (hab : a ≠ b) : ∀ n, grR (fun j => if R j = b then a else R j) n + ind ((List.range n).any (fun t => decide (R t = a)) && (List.range n).any (fun t => decide (R t = b))) = grR R n
  | 0 => rfl
  | n + 1 => by
    have ih := grR_union (R := R) hab n
    rw [grR, grR]
    have hA : (List.range (n + 1)).any (fun t => decide (R t = a)) = ((List.range n).any (fun t => decide (R t = a)) || decide (R n = a)) := by
      rw [List.range_succ, List.any_append]; simp
    have hB : (List.range (n + 1)).any (fun t => decide (R t = b)) = ((List.range n).any (fun t => decide (R t = b)) || decide (R n = b)) := by
      rw [List.range_succ, List.any_append]; simp
    rw [hA, hB]
    by_cases ea : R n = a
    · have eb : ¬ R n = b := by rw [ea]; exact hab
      have k1 : (List.range n).any (fun t => decide ((if R t = b then a else R t) = (if R n = b then a else R n))) = ((List.range n).any (fun t => decide (R t = a)) || (List.range n).any (fun t => decide (R t = b))) := by
        rw [if_neg eb, ea]
        apply Bool.eq_iff_iff.mpr
        rw [Bool.or_eq_true, any_iff, any_iff, any_iff]
        constructor
        · rintro ⟨t, ht, h⟩
          have h := of_decide_eq_true h
          by_cases e : R t = b
          · exact Or.inr ⟨t, ht, decide_eq_true e⟩
          · rw [if_neg e] at h; exact Or.inl ⟨t, ht, decide_eq_true h⟩
        · rintro (⟨t, ht, h⟩ | ⟨t, ht, h⟩)
          · have h := of_decide_eq_true h
            exact ⟨t, ht, decide_eq_true (by split <;> first | rfl | exact h)⟩
          · have h := of_decide_eq_true h
            exact ⟨t, ht, decide_eq_true (if_pos h)⟩
      have k2 : (List.range n).any (fun t => decide (R t = R n)) = (List.range n).any (fun t => decide (R t = a)) := by rw [ea]
      rw [k1, k2, decide_eq_true ea, decide_eq_false eb]
      clear k1 k2 hA hB
      generalize (List.range n).any (fun t => decide (R t = a)) = A at ih ⊢
      generalize (List.range n).any (fun t => decide (R t = b)) = B at ih ⊢
      generalize grR (fun j => if R j = b then a else R j) n = x at ih ⊢
      generalize grR R n = y at ih ⊢
      cases A <;> cases B <;> simp [ind] at ih ⊢ <;> omega
    · by_cases eb : R n = b
      · have k1 : (List.range n).any (fun t => decide ((if R t = b then a else R t) = (if R n = b then a else R n))) = ((List.range n).any (fun t => decide (R t = a)) || (List.range n).any (fun t => decide (R t = b))) := by
          rw [if_pos eb]
          apply Bool.eq_iff_iff.mpr
          rw [Bool.or_eq_true, any_iff, any_iff, any_iff]
          constructor
          · rintro ⟨t, ht, h⟩
            have h := of_decide_eq_true h
            by_cases e : R t = b
            · exact Or.inr ⟨t, ht, decide_eq_true e⟩
            · rw [if_neg e] at h; exact Or.inl ⟨t, ht, decide_eq_true h⟩
          · rintro (⟨t, ht, h⟩ | ⟨t, ht, h⟩)
            · have h := of_decide_eq_true h
              exact ⟨t, ht, decide_eq_true (by split <;> first | rfl | exact h)⟩
            · have h := of_decide_eq_true h
              exact ⟨t, ht, decide_eq_true (if_pos h)⟩
        have k2 : (List.range n).any (fun t => decide (R t = R n)) = (List.range n).any (fun t => decide (R t = b)) := by rw [eb]
        rw [k1, k2, decide_eq_false ea, decide_eq_true eb]
        clear k1 k2 hA hB
        generalize (List.range n).any (fun t => decide (R t = a)) = A at ih ⊢
        generalize (List.range n).any (fun t => decide (R t = b)) = B at ih ⊢
        generalize grR (fun j => if R j = b then a else R j) n = x at ih ⊢
        generalize grR R n = y at ih ⊢
        cases A <;> cases B <;> simp [ind] at ih ⊢ <;> omega
      · have k1 : (List.range n).any (fun t => decide ((if R t = b then a else R t) = (if R n = b then a else R n))) = (List.range n).any (fun t => decide (R t = R n)) := by
          rw [if_neg eb]
          apply Bool.eq_iff_iff.mpr
          rw [any_iff, any_iff]
          constructor
          · rintro ⟨t, ht, h⟩
            have h := of_decide_eq_true h
            by_cases e : R t = b
            · rw [if_pos e] at h; exact absurd h.symm ea
            · rw [if_neg e] at h; exact ⟨t, ht, decide_eq_true h⟩
          · rintro ⟨t, ht, h⟩
            have h := of_decide_eq_true h
            refine ⟨t, ht, decide_eq_true ?_⟩
            rw [if_neg (by rw [h]; exact eb)]
            exact h
        rw [k1, decide_eq_false ea, decide_eq_false eb, Bool.or_false, Bool.or_false]
        omega
/-- the roots tell the groups of the first k pipes -/
def UI (v : Nat → Nat) (R : Nat → Nat) (k : Nat) : Prop :=
  (∀ i j, i < v 0 → j < v 0 → R i = R j → Conn v 1 (-1) i j) ∧ ∀ p, p < k → opn (pV v p) (pD v p) = true → R (pA v p) = R (pB v p)
theorem use1 {v : Nat → Nat} (hI : Inv v) {p : Nat} (hp : p < v 1) (h : opn (pV v p) (pD v p) = true) : use v 1 (-1) p = true := by
  have := hI.2.1
  unfold use
  rw [h]
  unfold opn at h
  have h := of_decide_eq_true h
  rw [Bool.and_eq_true, Bool.and_eq_true]
  exact ⟨decide_eq_true (nI_neg (by omega)), rfl, decide_eq_true h.1⟩
theorem UI.start {v : Nat → Nat} : UI v (fun j => j) 0 := ⟨fun i j _ _ h => by cases h; exact Conn.refl, fun p hp => absurd hp (by omega)⟩
theorem UI.skip {v R : Nat → Nat} {k : Nat} (h : UI v R k) (hk : opn (pV v k) (pD v k) = true → R (pA v k) = R (pB v k)) : UI v R (k + 1) :=
  ⟨h.1, fun p hp ho => by
    by_cases e : p = k
    · subst e; exact hk ho
    · exact h.2 p (by omega) ho⟩
theorem UI.step {v R : Nat → Nat} (hI : Inv v) {k : Nat} (h : UI v R k) (hk : k < v 1) (ho : opn (pV v k) (pD v k) = true) : UI v (fun j => if R j = R (pB v k) then R (pA v k) else R j) (k + 1) := by
  obtain ⟨p1, p2, -⟩ := hI.pp hk
  have hc : Conn v 1 (-1) (pA v k) (pB v k) := Conn.adj ⟨k, hk, use1 hI hk ho, Or.inl ⟨rfl, rfl⟩⟩
  refine ⟨fun i j hi hj hij => ?_, fun p hp ho9 => ?_⟩
  · have hij : (if R i = R (pB v k) then R (pA v k) else R i) = (if R j = R (pB v k) then R (pA v k) else R j) := hij
    by_cases e1 : R i = R (pB v k)
    · rw [if_pos e1] at hij
      have c1 := h.1 i (pB v k) hi p2 e1
      by_cases e2 : R j = R (pB v k)
      · exact c1.trans (h.1 j (pB v k) hj p2 e2).symm
      · rw [if_neg e2] at hij
        exact (c1.trans hc.symm).trans (h.1 (pA v k) j p1 hj hij)
    · rw [if_neg e1] at hij
      by_cases e2 : R j = R (pB v k)
      · rw [if_pos e2] at hij
        exact (h.1 i (pA v k) hi p1 hij).trans (hc.trans (h.1 j (pB v k) hj p2 e2).symm)
      · rw [if_neg e2] at hij
        exact h.1 i j hi hj hij
  · show (if R (pA v p) = R (pB v k) then R (pA v k) else R (pA v p)) = (if R (pB v p) = R (pB v k) then R (pA v k) else R (pB v p))
    by_cases e : p = k
    · subst e
      rw [if_pos rfl]
      split <;> rfl
    · rw [h.2 p (by omega) ho9]
theorem UI.done {v R : Nat → Nat} (hI : Inv v) (h : UI v R (v 1)) : ∀ n, n ≤ v 0 → grR R n = grN v n
  | 0, _ => rfl
  | n + 1, hn => by
    rw [grR, grN, UI.done hI h n (by omega)]
    have e : (List.range n).any (fun t => decide (R t = R n)) = (List.range n).any (fun t => conB v 1 (-1) t n) := by
      apply Bool.eq_iff_iff.mpr
      rw [any_iff, any_iff]
      constructor
      · rintro ⟨t, ht, he⟩
        exact ⟨t, ht, (conB_iff hI (by omega)).mpr (h.1 t n (by omega) (by omega) (of_decide_eq_true he))⟩
      · rintro ⟨t, ht, he⟩
        have hc := (conB_iff hI (by omega)).mp he
        refine ⟨t, ht, decide_eq_true (hc (fun y => R t = R y) rfl (fun x y ⟨k, hk, hu, hxy⟩ hx => ?_))⟩
        unfold use at hu
        rw [Bool.and_eq_true, Bool.and_eq_true] at hu
        have := h.2 k hk hu.2.1
        rcases hxy with ⟨e1, e2⟩ | ⟨e1, e2⟩
        · rw [← e2, ← this, e1]; exact hx
        · rw [← e2, this, e1]; exact hx
    rw [e]
theorem UF.start' {n : Nat} : UF (fun x => if x < n then x else 0) (fun j => j) (fun _ => 0) n 0 := fun j hj => by
  show (if j < n then j else 0) < n ∧ j < n ∧ (if j < n then j else 0) = j ∧ (if j < n then j else 0) = j ∧ ((if j < n then j else 0) = j → j = j ∧ 0 = 0) ∧ ((if j < n then j else 0) ≠ j → 0 = 0 + 1) ∧ 0 ≤ 0
  rw [if_pos hj]
  exact ⟨hj, hj, rfl, rfl, fun _ => ⟨rfl, rfl⟩, fun h => absurd rfl h, Nat.le_refl _⟩
theorem fill_up {k : Nat} : va_up (fun x => if x < k then x else 0) k k = fun x => if x < k + 1 then x else 0 := by
  funext x
  unfold va_up
  by_cases e : x = k
  · rw [if_pos e, if_pos (by omega), e]
  · rw [if_neg e]
    show (if x < k then x else 0) = _
    by_cases h : x < k
    · rw [if_pos h, if_pos (by omega)]
    · rw [if_neg h, if_neg (by omega)]
theorem grR_dec {R : Nat → Nat} {n i j : Nat} (hi : i < n) (hj : j < n) (hne : R i ≠ R j) : grR (fun x => if R x = R j then R i else R x) n = grR R n - 1 ∧ 0 < grR R n := by
  have h := grR_union (R := R) hne n
  have e : ((List.range n).any (fun t => decide (R t = R i)) && (List.range n).any (fun t => decide (R t = R j))) = true := by
    rw [Bool.and_eq_true, any_iff, any_iff]
    exact ⟨⟨i, hi, decide_eq_true rfl⟩, ⟨j, hj, decide_eq_true rfl⟩⟩
  rw [e, ind, if_pos rfl] at h
  omega
theorem UF.root {P R dp : Nat → Nat} {n c j : Nat} (h : UF P R dp n c) (hj : j < n) : P (R j) = R j ∧ R j < n ∧ R (R j) = R j := by
  obtain ⟨h1, h2, h3, -⟩ := h j hj
  exact ⟨h3, h2, ((h (R j) h2).2.2.2.2.1 h3).1⟩
