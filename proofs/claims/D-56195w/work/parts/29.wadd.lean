/-! ===== a tank or a pipe more ===== -/
set_option maxRecDepth 100000
theorem IsWorks.elmT {g : Gh} {σ : Sto} {L v : Nat → Nat} (h : IsWorks g σ L v) : Elm σ (v 0) (fun t => L (10 + t)) := fun i hi => ⟨8, _, (RX4, TX4, 3), (h.2.2.2.2.1 i hi).1, rfl, q2844⟩
theorem IsWorks.elmP {g : Gh} {σ : Sto} {L v : Nat → Nat} (h : IsWorks g σ L v) : Elm σ (v 1) (fun t => L (100 + t)) := fun i hi => ⟨9, _, (RX5, TX5, 7), (h.2.2.2.2.2.1 i hi).1, rfl, q2846⟩
theorem Elm.new {σ : Sto} {k q : Nat} {ad : Nat → Nat} {e : va_E} (h : Elm σ k ad) (h0 : σ q = none) : Elm (sset σ q e) k ad := fun i hi => by
  obtain ⟨ci, vs, r, h1, h2⟩ := h i hi
  exact ⟨ci, vs, r, by rw [sset_ne (sto_ne0 h0 h1)]; exact h1, h2⟩
theorem addT {g : Gh} {σ σ3 : Sto} {L v : Nat → Nat} {q c cc ii : Nat} (h : IsWorks g σ L v) (h8 : v 0 < 8) (h0 : σ q = none) (hb : gB g ≤ q) (hadd : AddP g (sset σ q (oTank c cc ii)) σ3 (L 1) (L 3) (v 0) (fun t => L (10 + t)) q) (hB : ∀ a : Nat, a < gB g → σ3 a = σ a) (hc : gA g 0 < gB g) :
    Did g σ L v σ3 (va_up (upT v (v 0) c cc ii) 0 (v 0 + 1)) := by
  obtain ⟨ea', hl3, hea, hfr⟩ := hadd
  have w1 := h
  obtain ⟨e0, b0, hT, hP, ht1, hp1, i1, i2, l12, l34⟩ := h
  obtain ⟨mcT, nT, fT, eT, bT, aT, oT, -⟩ := id hT
  obtain ⟨mcP, nP, fP, eP, bP, aP, oP, kP, nP9, fP9⟩ := id hP
  have ne : ∀ {a : Nat} {e : va_E}, σ a = some e → a ≠ q := fun h1 => sto_ne0 h0 h1
  -- what keeps
  have kp : ∀ {a ci : Nat} {vs : List Value}, σ a = some (.inr (ci, vs)) → a ≠ L 1 → σ3 a = some (.inr (ci, vs)) := fun {a ci vs} h1 h2 => by
    rw [hfr a (by rw [sset_ne (ne h1), h1]; simp) h2 (fun e => by rw [e, aT] at h1; cases h1), sset_ne (ne h1), h1]
  have n1 : ∀ {a ci : Nat} {vs : List Value}, σ a = some (.inr (ci, vs)) → ci ≠ 2 → a ≠ L 1 := fun {a ci vs} h1 hc e => by
    rw [e, eT] at h1
    injection h1 with h1
    injection h1 with h1
    exact hc (congrArg Prod.fst h1).symm
  have hq1 : q ≠ L 1 := (ne eT).symm
  have hq3 : q ≠ L 3 := (ne aT).symm
  have l4 : σ3 (L 4) = σ (L 4) := by
    by_cases h43 : L 3 = L 4
    · exact hB _ (by rw [← h43, l34 h43]; exact hc)
    · rw [hfr (L 4) (by rw [sset_ne (ne aP), aP]; simp) (fun e => by rw [e, eT] at aP; cases aP) (fun e => h43 e.symm), sset_ne (ne aP)]
  obtain ⟨L', hL'⟩ : ∃ L', L' = va_up (va_up L 3 ea') (10 + v 0) q := ⟨_, rfl⟩
  have k' : ∀ j, j ≠ 3 → j ≠ 10 + v 0 → L' j = L j := fun j h1 h2 => by rw [hL', va_up_ne _ _ h2, va_up_ne _ _ h1]
  have k3 : L' 3 = ea' := by rw [hL', va_up_ne _ _ (by omega), va_up_self]
  have kq : L' (10 + v 0) = q := by rw [hL', va_up_self]
  obtain ⟨v', hv'⟩ : ∃ v', v' = va_up (upT v (v 0) c cc ii) 0 (v 0 + 1) := ⟨_, rfl⟩
  have u0 : v' 0 = v 0 + 1 := by rw [hv', va_up_self]
  have uj : ∀ j, j ≠ 0 → (j < 6 + 3 * v 0 ∨ 9 + 3 * v 0 ≤ j) → v' j = v j := fun j h1 h2 => by rw [hv', va_up_ne _ _ h1, upT_lo h2]
  rw [← hv']
  have sq : σ3 q = some (oTank c cc ii) := by
    rw [hfr q (by rw [sset_eq]; simp) hq1 hq3, sset_eq]
  have tq : tC v' (v 0) = c ∧ tK v' (v 0) = cc ∧ tI v' (v 0) = ii := by
    obtain ⟨x1, x2, x3⟩ := upT_tan (v := v) (t := v 0) (c := c) (k := cc) (i := ii)
    rw [hv', tC, tK, tI, va_up_ne _ _ (by omega), va_up_ne _ _ (by omega), va_up_ne _ _ (by omega)]
    exact ⟨x1, x2, x3⟩
  have fo3 : gB g ≤ ea' → Fo g L v ea' ∨ σ ea' = none := fun b => by
    rcases hea with e | e
    · exact Or.inl ⟨b, Or.inr (Or.inr (Or.inr (Or.inl e)))⟩
    · by_cases hqe : ea' = q
      · rw [hqe]; exact Or.inr h0
      · rw [sset_ne hqe] at e; exact Or.inr e
  refine ⟨L', ⟨?_, ?_, ?_, ?_, fun t ht => ?_, fun p hp => ?_, fun i j hi hj hij => ?_, fun i j hi hj hij => ?_, ?_, fun h34 => ?_⟩, k' 0 (by omega) (by omega), fun a ha => ?_, fun a ha hf => ?_⟩
  · rw [k' 0 (by omega) (by omega), kp e0 (n1 e0 (by decide)), wrkE, k' 1 (by omega) (by omega), k' 2 (by omega) (by omega), uj 2 (by omega) (by omega), uj 3 (by omega) (by omega), uj 4 (by omega) (by omega), uj 5 (by omega) (by omega)]
  · rw [k' 0 (by omega) (by omega)]; exact b0
  · rw [k' 1 (by omega) (by omega), k3, u0]
    have e9 : (fun t => L' (10 + t)) = va_up (fun t => L (10 + t)) (v 0) q := by
      funext t
      by_cases ht : t = v 0
      · rw [ht, kq, va_up_self]
      · rw [va_up_ne _ _ ht, k' _ (by omega) (by omega)]
    rw [e9]
    exact hl3
  · rw [k' 2 (by omega) (by omega), k' 4 (by omega) (by omega), uj 1 (by omega) (by omega)]
    have e9 : ∀ i, i < v 1 → L' (100 + i) = L (100 + i) := fun i hi => k' _ (by omega) (by omega)
    exact ⟨mcP, nP, fP, kp eP (fun e => l12 e.symm), bP, by rw [l4]; exact aP, oP, kP, nP9, fun i hi => by rw [fP9 i hi]; exact congrArg some (e9 i hi).symm⟩
  · rw [u0] at ht
    by_cases htq : t = v 0
    · subst htq
      rw [kq, sq, tanE, tq.1, tq.2.1, tq.2.2]
      exact ⟨rfl, hb⟩
    · rw [k' _ (by omega) (by omega)]
      obtain ⟨x1, x2⟩ := ht1 t (by omega)
      refine ⟨?_, x2⟩
      rw [kp x1 (n1 x1 (by decide))]
      simp only [tanE, tC, tK, tI]
      rw [uj _ (by omega) (by omega), uj _ (by omega) (by omega), uj _ (by omega) (by omega)]
  · rw [uj 1 (by omega) (by omega)] at hp
    rw [k' _ (by omega) (by omega)]
    obtain ⟨x1, x2⟩ := hp1 p hp
    refine ⟨?_, x2⟩
    rw [kp x1 (n1 x1 (by decide))]
    simp only [pipE, pA, pB, pM, pV, pR, pD, pL]
    rw [uj _ (by omega) (by omega), uj _ (by omega) (by omega), uj _ (by omega) (by omega), uj _ (by omega) (by omega), uj _ (by omega) (by omega), uj _ (by omega) (by omega), uj _ (by omega) (by omega)]
  · rw [u0] at hi hj
    by_cases h1 : i = v 0
    · by_cases h2 : j = v 0
      · omega
      · rw [h1, kq, k' _ (by omega) (by omega)] at hij
        exact absurd hij.symm (ne (ht1 j (by omega)).1)
    · by_cases h2 : j = v 0
      · rw [h2, kq, k' _ (by omega) (by omega)] at hij
        exact absurd hij (ne (ht1 i (by omega)).1)
      · rw [k' _ (by omega) (by omega), k' _ (by omega) (by omega)] at hij
        exact i1 i j (by omega) (by omega) hij
  · rw [uj 1 (by omega) (by omega)] at hi hj
    rw [k' _ (by omega) (by omega), k' _ (by omega) (by omega)] at hij
    exact i2 i j hi hj hij
  · rw [k' 1 (by omega) (by omega), k' 2 (by omega) (by omega)]; exact l12
  · rw [k3, k' 4 (by omega) (by omega)] at h34
    rw [k3]
    rcases hea with e | e
    · rw [e]; exact l34 (by rw [← e]; exact h34)
    · rw [h34, sset_ne (ne aP), aP] at e
      cases e
  · obtain ⟨hb1, ha⟩ := ha
    rw [u0, uj 1 (by omega) (by omega), k' 0 (by omega) (by omega), k' 1 (by omega) (by omega), k' 2 (by omega) (by omega), k3, k' 4 (by omega) (by omega)] at ha
    rcases ha with e | e | e | e | e | ⟨t, ht, e⟩ | ⟨t, ht, e⟩
    · exact Or.inl ⟨hb1, Or.inl e⟩
    · exact Or.inl ⟨hb1, Or.inr (Or.inl e)⟩
    · exact Or.inl ⟨hb1, Or.inr (Or.inr (Or.inl e))⟩
    · rw [e]; exact fo3 (by rw [← e]; exact hb1)
    · exact Or.inl ⟨hb1, Or.inr (Or.inr (Or.inr (Or.inr (Or.inl e))))⟩
    · by_cases htq : t = v 0
      · rw [e, htq, kq]; exact Or.inr h0
      · rw [k' _ (by omega) (by omega)] at e
        exact Or.inl ⟨hb1, Or.inr (Or.inr (Or.inr (Or.inr (Or.inr (Or.inl ⟨t, by omega, e⟩)))))⟩
    · rw [k' _ (by omega) (by omega)] at e
      exact Or.inl ⟨hb1, Or.inr (Or.inr (Or.inr (Or.inr (Or.inr (Or.inr ⟨t, ht, e⟩)))))⟩
  · have haq : a ≠ q := by rintro rfl; exact ha h0
    by_cases hb2 : gB g ≤ a
    · rw [hfr a (by rw [sset_ne haq]; exact ha) (fun e => hf ⟨hb2, Or.inr (Or.inl e)⟩) (fun e => hf ⟨hb2, Or.inr (Or.inr (Or.inr (Or.inl e)))⟩), sset_ne haq]
    · exact hB a (by omega)
theorem addP {g : Gh} {σ σ3 : Sto} {L v : Nat → Nat} {q a1 a2 a3 a4 a5 a6 a7 : Nat} (h : IsWorks g σ L v) (h80 : v 0 ≤ 8) (h8 : v 1 < 12) (h0 : σ q = none) (hb : gB g ≤ q) (hadd : AddP g (sset σ q (oPipe a1 a2 a3 a4 a5 a6 a7)) σ3 (L 2) (L 4) (v 1) (fun t => L (100 + t)) q) (hB : ∀ a : Nat, a < gB g → σ3 a = σ a) (hc : gA g 0 < gB g) :
    Did g σ L v σ3 (va_up (upP v (v 1) a1 a2 a3 a4 a5 a6 a7) 1 (v 1 + 1)) := by
  obtain ⟨ea', hl3, hea, hfr⟩ := hadd
  have w1 := h
  obtain ⟨e0, b0, hT, hP, ht1, hp1, i1, i2, l12, l34⟩ := h
  obtain ⟨mcT, nT, fT, eT, bT, aT, oT, -⟩ := id hP
  obtain ⟨mcP, nP, fP, eP, bP, aP, oP, kP, nP9, fP9⟩ := id hT
  have ne : ∀ {a : Nat} {e : va_E}, σ a = some e → a ≠ q := fun h1 => sto_ne0 h0 h1
  -- what keeps
  have kp : ∀ {a ci : Nat} {vs : List Value}, σ a = some (.inr (ci, vs)) → a ≠ L 2 → σ3 a = some (.inr (ci, vs)) := fun {a ci vs} h1 h2 => by
    rw [hfr a (by rw [sset_ne (ne h1), h1]; simp) h2 (fun e => by rw [e, aT] at h1; cases h1), sset_ne (ne h1), h1]
  have n1 : ∀ {a ci : Nat} {vs : List Value}, σ a = some (.inr (ci, vs)) → ci ≠ 2 → a ≠ L 2 := fun {a ci vs} h1 hc e => by
    rw [e, eT] at h1
    injection h1 with h1
    injection h1 with h1
    exact hc (congrArg Prod.fst h1).symm
  have hq1 : q ≠ L 2 := (ne eT).symm
  have hq3 : q ≠ L 4 := (ne aT).symm
  have l4 : σ3 (L 3) = σ (L 3) := by
    by_cases h43 : L 3 = L 4
    · exact hB _ (by rw [l34 h43]; exact hc)
    · rw [hfr (L 3) (by rw [sset_ne (ne aP), aP]; simp) (fun e => by rw [e, eT] at aP; cases aP) h43, sset_ne (ne aP)]
  obtain ⟨L', hL'⟩ : ∃ L', L' = va_up (va_up L 4 ea') (100 + v 1) q := ⟨_, rfl⟩
  have k' : ∀ j, j ≠ 4 → j ≠ 100 + v 1 → L' j = L j := fun j h1 h2 => by rw [hL', va_up_ne _ _ h2, va_up_ne _ _ h1]
  have k3 : L' 4 = ea' := by rw [hL', va_up_ne _ _ (by omega), va_up_self]
  have kq : L' (100 + v 1) = q := by rw [hL', va_up_self]
  obtain ⟨v', hv'⟩ : ∃ v', v' = va_up (upP v (v 1) a1 a2 a3 a4 a5 a6 a7) 1 (v 1 + 1) := ⟨_, rfl⟩
  have u0 : v' 1 = v 1 + 1 := by rw [hv', va_up_self]
  have uj : ∀ j, j ≠ 1 → (j < 30 + 7 * v 1 ∨ 37 + 7 * v 1 ≤ j) → v' j = v j := fun j h1 h2 => by rw [hv', va_up_ne _ _ h1, upP_lo h2]
  rw [← hv']
  have sq : σ3 q = some (oPipe a1 a2 a3 a4 a5 a6 a7) := by
    rw [hfr q (by rw [sset_eq]; simp) hq1 hq3, sset_eq]
  have tq : pA v' (v 1) = a1 ∧ pB v' (v 1) = a2 ∧ pM v' (v 1) = a3 ∧ pV v' (v 1) = a4 ∧ pR v' (v 1) = a5 ∧ pD v' (v 1) = a6 ∧ pL v' (v 1) = a7 := by
    have hx := upP_pip (v := v) (q := v 1) (a := a1) (b := a2) (m := a3) (s := a4) (r := a5) (d := a6) (l := a7)
    rw [hv', pA, pB, pM, pV, pR, pD, pL, va_up_ne _ _ (by omega), va_up_ne _ _ (by omega), va_up_ne _ _ (by omega), va_up_ne _ _ (by omega), va_up_ne _ _ (by omega), va_up_ne _ _ (by omega), va_up_ne _ _ (by omega)]
    exact hx
  have fo3 : gB g ≤ ea' → Fo g L v ea' ∨ σ ea' = none := fun b => by
    rcases hea with e | e
    · exact Or.inl ⟨b, Or.inr (Or.inr (Or.inr (Or.inr (Or.inl e))))⟩
    · by_cases hqe : ea' = q
      · rw [hqe]; exact Or.inr h0
      · rw [sset_ne hqe] at e; exact Or.inr e
  refine ⟨L', ⟨?_, ?_, ?_, ?_, fun t ht => ?_, fun p hp => ?_, fun i j hi hj hij => ?_, fun i j hi hj hij => ?_, ?_, fun h34 => ?_⟩, k' 0 (by omega) (by omega), fun a ha => ?_, fun a ha hf => ?_⟩
  · rw [k' 0 (by omega) (by omega), kp e0 (n1 e0 (by decide)), wrkE, k' 1 (by omega) (by omega), k' 2 (by omega) (by omega), uj 2 (by omega) (by omega), uj 3 (by omega) (by omega), uj 4 (by omega) (by omega), uj 5 (by omega) (by omega)]
  · rw [k' 0 (by omega) (by omega)]; exact b0
  · rw [k' 1 (by omega) (by omega), k' 3 (by omega) (by omega), uj 0 (by omega) (by omega)]
    have e9 : ∀ i, i < v 0 → L' (10 + i) = L (10 + i) := fun i hi => k' _ (by omega) (by omega)
    exact ⟨mcP, nP, fP, kp eP l12, bP, by rw [l4]; exact aP, oP, kP, nP9, fun i hi => by rw [fP9 i hi]; exact congrArg some (e9 i hi).symm⟩
  · rw [k' 2 (by omega) (by omega), k3, u0]
    have e9 : (fun t => L' (100 + t)) = va_up (fun t => L (100 + t)) (v 1) q := by
      funext t
      by_cases ht : t = v 1
      · rw [ht, kq, va_up_self]
      · rw [va_up_ne _ _ ht, k' _ (by omega) (by omega)]
    rw [e9]
    exact hl3
  · rw [uj 0 (by omega) (by omega)] at ht
    rw [k' _ (by omega) (by omega)]
    obtain ⟨x1, x2⟩ := ht1 t ht
    refine ⟨?_, x2⟩
    rw [kp x1 (n1 x1 (by decide))]
    simp only [tanE, tC, tK, tI]
    rw [uj _ (by omega) (by omega), uj _ (by omega) (by omega), uj _ (by omega) (by omega)]
  · rw [u0] at hp
    by_cases htq : p = v 1
    · subst htq
      rw [kq, sq, pipE, tq.1, tq.2.1, tq.2.2.1, tq.2.2.2.1, tq.2.2.2.2.1, tq.2.2.2.2.2.1, tq.2.2.2.2.2.2]
      exact ⟨rfl, hb⟩
    · rw [k' _ (by omega) (by omega)]
      obtain ⟨x1, x2⟩ := hp1 p (by omega)
      refine ⟨?_, x2⟩
      rw [kp x1 (n1 x1 (by decide))]
      simp only [pipE, pA, pB, pM, pV, pR, pD, pL]
      rw [uj _ (by omega) (by omega), uj _ (by omega) (by omega), uj _ (by omega) (by omega), uj _ (by omega) (by omega), uj _ (by omega) (by omega), uj _ (by omega) (by omega), uj _ (by omega) (by omega)]
  · rw [uj 0 (by omega) (by omega)] at hi hj
    rw [k' _ (by omega) (by omega), k' _ (by omega) (by omega)] at hij
    exact i1 i j hi hj hij
  · rw [u0] at hi hj
    by_cases h1 : i = v 1
    · by_cases h2 : j = v 1
      · omega
      · rw [h1, kq, k' _ (by omega) (by omega)] at hij
        exact absurd hij.symm (ne (hp1 j (by omega)).1)
    · by_cases h2 : j = v 1
      · rw [h2, kq, k' _ (by omega) (by omega)] at hij
        exact absurd hij (ne (hp1 i (by omega)).1)
      · rw [k' _ (by omega) (by omega), k' _ (by omega) (by omega)] at hij
        exact i2 i j (by omega) (by omega) hij
  · rw [k' 1 (by omega) (by omega), k' 2 (by omega) (by omega)]; exact l12
  · rw [k3, k' 3 (by omega) (by omega)] at h34
    rw [k' 3 (by omega) (by omega)]
    rcases hea with e | e
    · exact l34 (h34.trans e)
    · rw [← h34, sset_ne (ne aP), aP] at e
      cases e
  · obtain ⟨hb1, ha⟩ := ha
    rw [u0, uj 0 (by omega) (by omega), k' 0 (by omega) (by omega), k' 1 (by omega) (by omega), k' 2 (by omega) (by omega), k3, k' 3 (by omega) (by omega)] at ha
    rcases ha with e | e | e | e | e | ⟨t, ht, e⟩ | ⟨t, ht, e⟩
    · exact Or.inl ⟨hb1, Or.inl e⟩
    · exact Or.inl ⟨hb1, Or.inr (Or.inl e)⟩
    · exact Or.inl ⟨hb1, Or.inr (Or.inr (Or.inl e))⟩
    · exact Or.inl ⟨hb1, Or.inr (Or.inr (Or.inr (Or.inl e)))⟩
    · rw [e]; exact fo3 (by rw [← e]; exact hb1)
    · rw [k' _ (by omega) (by omega)] at e
      exact Or.inl ⟨hb1, Or.inr (Or.inr (Or.inr (Or.inr (Or.inr (Or.inl ⟨t, ht, e⟩)))))⟩
    · by_cases htq : t = v 1
      · rw [e, htq, kq]; exact Or.inr h0
      · rw [k' _ (by omega) (by omega)] at e
        exact Or.inl ⟨hb1, Or.inr (Or.inr (Or.inr (Or.inr (Or.inr (Or.inr ⟨t, by omega, e⟩)))))⟩
  · have haq : a ≠ q := by rintro rfl; exact ha h0
    by_cases hb2 : gB g ≤ a
    · rw [hfr a (by rw [sset_ne haq]; exact ha) (fun e => hf ⟨hb2, Or.inr (Or.inr (Or.inl e))⟩) (fun e => hf ⟨hb2, Or.inr (Or.inr (Or.inr (Or.inr (Or.inl e))))⟩), sset_ne haq]
    · exact hB a (by omega)
/-- what a copy in the making holds -/
def cw (v : Nat → Nat) (a b : Nat) : Nat → Nat := upW (va_up (va_up v 0 a) 1 b) 0 0 0 0
theorem cw_0 {v : Nat → Nat} {a b : Nat} : cw v a b 0 = a ∧ cw v a b 1 = b := by simp [cw, upW, va_up]
theorem cw_hi {v : Nat → Nat} {a b j : Nat} (h : 6 ≤ j) : cw v a b j = v j := by
  rw [cw, upW_lo (by omega), va_up_ne _ _ (by omega), va_up_ne _ _ (by omega)]
theorem cw_T {v : Nat → Nat} {k : Nat} : va_up (upT (cw v k 0) (cw v k 0 0) (tC v k) (tK v k) (tI v k)) 0 (cw v k 0 0 + 1) = cw v (k + 1) 0 := by
  rw [cw_0.1]
  funext j
  by_cases h0 : j = 0
  · rw [h0, va_up_self, cw_0.1]
  · rw [va_up_ne _ _ h0]
    by_cases h6 : j < 6 + 3 * k ∨ 9 + 3 * k ≤ j
    · rw [upT_lo h6]
      unfold cw upW va_up
      simp [h0]
    · rw [cw_hi (by omega)]
      obtain ⟨x1, x2, x3⟩ := upT_tan (v := cw v k 0) (t := k) (c := tC v k) (k := tK v k) (i := tI v k)
      rcases (show j = 6 + 3 * k ∨ j = 6 + 3 * k + 1 ∨ j = 6 + 3 * k + 2 by omega) with e | e | e <;> subst e
      · exact x1
      · exact x2
      · exact x3
theorem cw_P {v : Nat → Nat} {n k : Nat} : va_up (upP (cw v n k) (cw v n k 1) (pA v k) (pB v k) (pM v k) (pV v k) (pR v k) (pD v k) (pL v k)) 1 (cw v n k 1 + 1) = cw v n (k + 1) := by
  rw [cw_0.2]
  funext j
  by_cases h0 : j = 1
  · rw [h0, va_up_self, cw_0.2]
  · rw [va_up_ne _ _ h0]
    by_cases h6 : j < 30 + 7 * k ∨ 37 + 7 * k ≤ j
    · rw [upP_lo h6]
      unfold cw upW va_up
      simp [h0]
    · rw [cw_hi (by omega)]
      obtain ⟨x1, x2, x3, x4, x5, x6, x7⟩ := upP_pip (v := cw v n k) (q := k) (a := pA v k) (b := pB v k) (m := pM v k) (s := pV v k) (r := pR v k) (d := pD v k) (l := pL v k)
      rcases (show j = 30 + 7 * k ∨ j = 30 + 7 * k + 1 ∨ j = 30 + 7 * k + 2 ∨ j = 30 + 7 * k + 3 ∨ j = 30 + 7 * k + 4 ∨ j = 30 + 7 * k + 5 ∨ j = 30 + 7 * k + 6 by omega) with e | e | e | e | e | e | e <;> subst e <;> assumption
theorem cw_end {v : Nat → Nat} : upW (cw v (v 0) (v 1)) (v 2) (v 3) (v 4) (v 5) = v := by
  funext j
  unfold cw upW va_up
  repeat' split
  all_goals first | rfl | (subst_vars; rfl) | omega
theorem Did.fresh {g : Gh} {σ0 σ σ' : Sto} {L v v' : Nat → Nat} (h : Did g σ L v σ' v') (hx : Ext σ0 σ) (hf : ∀ a, Fo g L v a → σ0 a = none) : ∃ L', IsWorks g σ' L' v' ∧ L' 0 = L 0 ∧ (∀ a, Fo g L' v' a → σ0 a = none) ∧ Ext σ0 σ' := by
  obtain ⟨L', h1, h2, h3, h4⟩ := h
  refine ⟨L', h1, h2, fun a ha => ?_, fun a ha => ?_⟩
  · rcases h3 a ha with h | h
    · exact hf a h
    · exact hx.none h
  · rw [h4 a (by rw [hx a ha]; exact ha) (fun h => ha (hf a h)), hx a ha]
theorem isWorks0 {g : Gh} {σ : Sto} {L v : Nat → Nat} (h0 : σ (L 0) = some (.inr (1, [.ref (L 1), .ref (L 2), .int (nI 0), .int (nI 0), .int (nI 0), .int (nI 0)]))) (b0 : gB g ≤ L 0) (h1 : σ (L 1) = some (.inr (2, [.int (nI 0), .ref (gA g 0), .int (nI 0)]))) (b1 : gB g ≤ L 1) (h2 : σ (L 2) = some (.inr (2, [.int (nI 0), .ref (gA g 0), .int (nI 0)]))) (b2 : gB g ≤ L 2) (h3 : L 3 = gA g 0) (h4 : L 4 = gA g 0) (hA : σ (gA g 0) = some (eR g 0 (fun _ => none))) (h12 : L 1 ≠ L 2) : IsWorks g σ L (cw v 0 0) := by
  obtain ⟨e0, e1⟩ := cw_0 (v := v) (a := 0) (b := 0)
  have e : cw v 0 0 2 = 0 ∧ cw v 0 0 3 = 0 ∧ cw v 0 0 4 = 0 ∧ cw v 0 0 5 = 0 := by simp [cw, upW, va_up]
  refine ⟨?_, b0, ?_, ?_, fun t ht => ?_, fun q hq => ?_, fun i j hi => ?_, fun i j hi => ?_, h12, fun _ => h3⟩
  · rw [h0, wrkE, e.1, e.2.1, e.2.2.1, e.2.2.2]
  · rw [e0, h3]
    exact ⟨nI 0, 0, _, h1, b1, hA, Or.inl ⟨rfl, rfl⟩, Nat.le_refl _, by omega, fun i hi => absurd hi (by omega)⟩
  · rw [e1, h4]
    exact ⟨nI 0, 0, _, h2, b2, hA, Or.inl ⟨rfl, rfl⟩, Nat.le_refl _, by omega, fun i hi => absurd hi (by omega)⟩
  · rw [e0] at ht; omega
  · rw [e1] at hq; omega
  · rw [e0] at hi; omega
  · rw [e1] at hi; omega
