/-! ===== the waterworks changed: pure values, footprints ===== -/
set_option maxRecDepth 100000
def upT (v : Nat → Nat) (t c k i : Nat) : Nat → Nat := va_up (va_up (va_up v (6 + 3 * t) c) (6 + 3 * t + 1) k) (6 + 3 * t + 2) i
def upP (v : Nat → Nat) (q a b m s r d l : Nat) : Nat → Nat := va_up (va_up (va_up (va_up (va_up (va_up (va_up v (30 + 7 * q) a) (30 + 7 * q + 1) b) (30 + 7 * q + 2) m) (30 + 7 * q + 3) s) (30 + 7 * q + 4) r) (30 + 7 * q + 5) d) (30 + 7 * q + 6) l
def upW (v : Nat → Nat) (t p d s : Nat) : Nat → Nat := va_up (va_up (va_up (va_up v 2 t) 3 p) 4 d) 5 s
theorem upT_lo {v : Nat → Nat} {t c k i j : Nat} (h : j < 6 + 3 * t ∨ 9 + 3 * t ≤ j) : upT v t c k i j = v j := by
  unfold upT va_up
  rw [if_neg (by omega), if_neg (by omega), if_neg (by omega)]
theorem upP_lo {v : Nat → Nat} {q a b m s r d l j : Nat} (h : j < 30 + 7 * q ∨ 37 + 7 * q ≤ j) : upP v q a b m s r d l j = v j := by
  unfold upP va_up
  rw [if_neg (by omega), if_neg (by omega), if_neg (by omega), if_neg (by omega), if_neg (by omega), if_neg (by omega), if_neg (by omega)]
theorem upW_lo {v : Nat → Nat} {t p d s j : Nat} (h : j < 2 ∨ 6 ≤ j) : upW v t p d s j = v j := by
  unfold upW va_up
  rw [if_neg (by omega), if_neg (by omega), if_neg (by omega), if_neg (by omega)]
theorem upT_tan {v : Nat → Nat} {t c k i : Nat} : tC (upT v t c k i) t = c ∧ tK (upT v t c k i) t = k ∧ tI (upT v t c k i) t = i := by
  simp [tC, tK, tI, upT, va_up]
theorem upT_tan' {v : Nat → Nat} {t c k i j : Nat} (h : j ≠ t) : tC (upT v t c k i) j = tC v j ∧ tK (upT v t c k i) j = tK v j ∧ tI (upT v t c k i) j = tI v j :=
  ⟨upT_lo (by omega), upT_lo (by omega), upT_lo (by omega)⟩
theorem upP_pip {v : Nat → Nat} {q a b m s r d l : Nat} : pA (upP v q a b m s r d l) q = a ∧ pB (upP v q a b m s r d l) q = b ∧ pM (upP v q a b m s r d l) q = m ∧ pV (upP v q a b m s r d l) q = s ∧ pR (upP v q a b m s r d l) q = r ∧ pD (upP v q a b m s r d l) q = d ∧ pL (upP v q a b m s r d l) q = l := by
  simp [pA, pB, pM, pV, pR, pD, pL, upP, va_up]
theorem upP_pip' {v : Nat → Nat} {q a b m s r d l j : Nat} (h : j ≠ q) : pA (upP v q a b m s r d l) j = pA v j ∧ pB (upP v q a b m s r d l) j = pB v j ∧ pM (upP v q a b m s r d l) j = pM v j ∧ pV (upP v q a b m s r d l) j = pV v j ∧ pR (upP v q a b m s r d l) j = pR v j ∧ pD (upP v q a b m s r d l) j = pD v j ∧ pL (upP v q a b m s r d l) j = pL v j :=
  ⟨upP_lo (by omega), upP_lo (by omega), upP_lo (by omega), upP_lo (by omega), upP_lo (by omega), upP_lo (by omega), upP_lo (by omega)⟩
/-- a list doesn't mind other objects -/
theorem IsList.setO {g : Gh} {σ : Sto} {tl ea k a ci : Nat} {ad : Nat → Nat} {vs : List Value} {e : va_E} (h : IsList g σ tl ea k ad) (h0 : σ a = some (.inr (ci, vs))) (hc : ci ≠ 2) : IsList g (sset σ a e) tl ea k ad := by
  obtain ⟨mc, n, f, e0, b0, e1, h2⟩ := h
  exact ⟨mc, n, f, by rw [sset_ne (sto_ne h0 e0 (fun h => hc (by injection h with h; exact (congrArg Prod.fst h))))]; exact e0, b0, by rw [sset_ne (sto_ne h0 e1 (by simp))]; exact e1, h2⟩
/-- .. nor a new thing -/
theorem IsList.new {g : Gh} {σ : Sto} {tl ea k a : Nat} {ad : Nat → Nat} {e : va_E} (h : IsList g σ tl ea k ad) (h0 : σ a = none) : IsList g (sset σ a e) tl ea k ad := by
  obtain ⟨mc, n, f, e0, b0, e1, h2⟩ := h
  exact ⟨mc, n, f, by rw [sset_ne (sto_ne0 h0 e0)]; exact e0, b0, by rw [sset_ne (sto_ne0 h0 e1)]; exact e1, h2⟩
theorem IsWorks.setT {g : Gh} {σ : Sto} {L v : Nat → Nat} {t c k i : Nat} (h : IsWorks g σ L v) (ht : t < v 0) (h8 : t < 8) : IsWorks g (sset σ (L (10 + t)) (oTank c k i)) L (upT v t c k i) := by
  obtain ⟨h0, b0, hT, hP, ht1, hp1, i1, i2, l12, l34⟩ := h
  obtain ⟨e0, -⟩ := ht1 t ht
  have q0 : ∀ j, j < 6 → upT v t c k i j = v j := fun j hj => upT_lo (by omega)
  refine ⟨?_, b0, ?_, ?_, ?_, ?_, ?_, ?_, l12, l34⟩
  · rw [sset_ne (sto_ne e0 h0 (by simp)), h0, wrkE, wrkE, q0 2 (by omega), q0 3 (by omega), q0 4 (by omega), q0 5 (by omega)]
  · rw [q0 0 (by omega)]
    exact hT.setO e0 (by decide)
  · rw [q0 1 (by omega)]
    exact hP.setO e0 (by decide)
  · intro j hj
    rw [q0 0 (by omega)] at hj
    refine ⟨?_, (ht1 j hj).2⟩
    by_cases hjt : j = t
    · subst hjt
      obtain ⟨x1, x2, x3⟩ := upT_tan (v := v) (t := j) (c := c) (k := k) (i := i)
      rw [sset_eq, tanE, x1, x2, x3]
    · obtain ⟨x1, x2, x3⟩ := upT_tan' (v := v) (t := t) (c := c) (k := k) (i := i) hjt
      rw [sset_ne (fun e => hjt (i1 j t hj ht e)), (ht1 j hj).1, tanE, tanE, x1, x2, x3]
  · intro q hq
    rw [q0 1 (by omega)] at hq
    refine ⟨?_, (hp1 q hq).2⟩
    have x : ∀ j, j < 7 → upT v t c k i (30 + 7 * q + j) = v (30 + 7 * q + j) := fun j hj => upT_lo (by omega)
    rw [sset_ne (sto_ne e0 (hp1 q hq).1 (by simp)), (hp1 q hq).1]
    have x0 := x 0 (by omega)
    rw [Nat.add_zero] at x0
    rw [pipE, pipE, pA, pB, pM, pV, pR, pD, pL, pA, pB, pM, pV, pR, pD, pL, x0, x 1 (by omega), x 2 (by omega), x 3 (by omega), x 4 (by omega), x 5 (by omega), x 6 (by omega)]
  · intro a b ha hb
    rw [q0 0 (by omega)] at ha hb
    exact i1 a b ha hb
  · intro a b ha hb
    rw [q0 1 (by omega)] at ha hb
    exact i2 a b ha hb
theorem IsWorks.setP {g : Gh} {σ : Sto} {L v : Nat → Nat} {q a b m s r d l : Nat} (h : IsWorks g σ L v) (hq : q < v 1) (h8 : v 0 ≤ 8) : IsWorks g (sset σ (L (100 + q)) (oPipe a b m s r d l)) L (upP v q a b m s r d l) := by
  obtain ⟨h0, b0, hT, hP, ht1, hp1, i1, i2, l12, l34⟩ := h
  obtain ⟨e0, -⟩ := hp1 q hq
  have q0 : ∀ j, j < 30 → upP v q a b m s r d l j = v j := fun j hj => upP_lo (by omega)
  refine ⟨?_, b0, ?_, ?_, ?_, ?_, ?_, ?_, l12, l34⟩
  · rw [sset_ne (sto_ne e0 h0 (by simp)), h0, wrkE, wrkE, q0 2 (by omega), q0 3 (by omega), q0 4 (by omega), q0 5 (by omega)]
  · rw [q0 0 (by omega)]
    exact hT.setO e0 (by decide)
  · rw [q0 1 (by omega)]
    exact hP.setO e0 (by decide)
  · intro j hj
    rw [q0 0 (by omega)] at hj
    refine ⟨?_, (ht1 j hj).2⟩
    rw [sset_ne (sto_ne e0 (ht1 j hj).1 (by simp)), (ht1 j hj).1, tanE, tanE, tC, tK, tI, tC, tK, tI, q0 _ (by omega), q0 _ (by omega), q0 _ (by omega)]
  · intro j hj
    rw [q0 1 (by omega)] at hj
    refine ⟨?_, (hp1 j hj).2⟩
    by_cases hjt : j = q
    · subst hjt
      obtain ⟨x1, x2, x3, x4, x5, x6, x7⟩ := upP_pip (v := v) (q := j) (a := a) (b := b) (m := m) (s := s) (r := r) (d := d) (l := l)
      rw [sset_eq, pipE, x1, x2, x3, x4, x5, x6, x7]
    · obtain ⟨x1, x2, x3, x4, x5, x6, x7⟩ := upP_pip' (v := v) (q := q) (a := a) (b := b) (m := m) (s := s) (r := r) (d := d) (l := l) hjt
      rw [sset_ne (fun e => hjt (i2 j q hj hq e)), (hp1 j hj).1, pipE, pipE, x1, x2, x3, x4, x5, x6, x7]
  · intro a b ha hb
    rw [q0 0 (by omega)] at ha hb
    exact i1 a b ha hb
  · intro a b ha hb
    rw [q0 1 (by omega)] at ha hb
    exact i2 a b ha hb
theorem IsWorks.setW {g : Gh} {σ : Sto} {L v : Nat → Nat} {t p d s : Nat} (h : IsWorks g σ L v) (h8 : v 0 ≤ 8) : IsWorks g (sset σ (L 0) (.inr (1, [.ref (L 1), .ref (L 2), .int (nI t), .int (nI p), .int (nI d), .int (nI s)]))) L (upW v t p d s) := by
  obtain ⟨h0, b0, hT, hP, ht1, hp1, i1, i2, l12, l34⟩ := h
  have q0 : ∀ j, j < 2 ∨ 6 ≤ j → upW v t p d s j = v j := fun j hj => upW_lo hj
  refine ⟨?_, b0, ?_, ?_, ?_, ?_, ?_, ?_, l12, l34⟩
  · rw [sset_eq]
    simp [wrkE, upW, va_up]
  · rw [q0 0 (by omega)]
    exact hT.setO h0 (by decide)
  · rw [q0 1 (by omega)]
    exact hP.setO h0 (by decide)
  · intro j hj
    rw [q0 0 (by omega)] at hj
    refine ⟨?_, (ht1 j hj).2⟩
    rw [sset_ne (sto_ne h0 (ht1 j hj).1 (by simp)), (ht1 j hj).1, tanE, tanE, tC, tK, tI, tC, tK, tI, q0 _ (by omega), q0 _ (by omega), q0 _ (by omega)]
  · intro j hj
    rw [q0 1 (by omega)] at hj
    refine ⟨?_, (hp1 j hj).2⟩
    rw [sset_ne (sto_ne h0 (hp1 j hj).1 (by simp)), (hp1 j hj).1, pipE, pipE, pA, pB, pM, pV, pR, pD, pL, pA, pB, pM, pV, pR, pD, pL, q0 _ (by omega), q0 _ (by omega), q0 _ (by omega), q0 _ (by omega), q0 _ (by omega), q0 _ (by omega), q0 _ (by omega)]
  · intro a b ha hb
    rw [q0 0 (by omega)] at ha hb
    exact i1 a b ha hb
  · intro a b ha hb
    rw [q0 1 (by omega)] at ha hb
    exact i2 a b ha hb
/-- where a works may change: its own object, lists, arrays, tanks, pipes -/
def Fo (g : Gh) (L v : Nat → Nat) (a : Nat) : Prop := gB g ≤ a ∧ (a = L 0 ∨ a = L 1 ∨ a = L 2 ∨ a = L 3 ∨ a = L 4 ∨ (∃ t, t < v 0 ∧ a = L (10 + t)) ∨ ∃ q, q < v 1 ∧ a = L (100 + q))
/-- nothing that was there has changed -/
def Ext (σ σ' : Sto) : Prop := ∀ a, σ a ≠ none → σ' a = σ a
/-- .. but within a works -/
def Fr (g : Gh) (σ σ' : Sto) (L v : Nat → Nat) : Prop := ∀ a, σ a ≠ none → ¬ Fo g L v a → σ' a = σ a
theorem Ext.refl {σ : Sto} : Ext σ σ := fun _ _ => rfl
theorem Ext.trans {σ1 σ2 σ3 : Sto} (h1 : Ext σ1 σ2) (h2 : Ext σ2 σ3) : Ext σ1 σ3 := fun a ha => by
  have := h1 a ha
  rw [h2 a (by rw [this]; exact ha), this]
theorem Ext.at {σ σ' : Sto} (h : Ext σ σ') {a : Nat} {e : va_E} (h0 : σ a = some e) : σ' a = some e := by
  rw [h a (by rw [h0]; simp), h0]
theorem Ext.new {σ : Sto} {q : Nat} {e : va_E} (h : σ q = none) : Ext σ (sset σ q e) := fun a ha => sset_ne (by rintro rfl; exact ha h)
/-- writing what is new since σ -/
theorem Ext.set {σ σ1 : Sto} {q : Nat} {e : va_E} (h : Ext σ σ1) (hq : σ q = none) : Ext σ (sset σ1 q e) := fun a ha => by
  rw [sset_ne (by rintro rfl; exact ha hq)]
  exact h a ha
theorem Ext.none {σ σ' : Sto} (h : Ext σ σ') {a : Nat} (h0 : σ' a = none) : σ a = none := by
  cases e : σ a with
  | none => rfl
  | some x =>
    rw [h.at e] at h0
    cases h0
theorem Fr.refl {g : Gh} {σ : Sto} {L v : Nat → Nat} : Fr g σ σ L v := fun _ _ _ => rfl
theorem Ext.fr {g : Gh} {σ σ' : Sto} {L v : Nat → Nat} (h : Ext σ σ') : Fr g σ σ' L v := fun a ha _ => h a ha
theorem Fr.trans {g : Gh} {σ1 σ2 σ3 : Sto} {L v v' : Nat → Nat} (h1 : Fr g σ1 σ2 L v) (h2 : Fr g σ2 σ3 L v') (e0 : v' 0 = v 0) (e1 : v' 1 = v 1) : Fr g σ1 σ3 L v := fun a ha hf => by
  have := h1 a ha hf
  rw [h2 a (by rw [this]; exact ha) (by unfold Fo at hf ⊢; rw [e0, e1]; exact hf), this]
theorem Fr.set {g : Gh} {σ σ1 : Sto} {L v : Nat → Nat} {q : Nat} {e : va_E} (h : Fr g σ σ1 L v) (hq : Fo g L v q) : Fr g σ (sset σ1 q e) L v := fun a ha hf => by
  rw [sset_ne (by rintro rfl; exact hf hq)]
  exact h a ha hf
theorem IsList.ext {g : Gh} {σ σ' : Sto} {tl ea k : Nat} {ad : Nat → Nat} (h : IsList g σ tl ea k ad) (hx : Ext σ σ') : IsList g σ' tl ea k ad := by
  obtain ⟨mc, n, f, e0, b0, e1, h2⟩ := h
  exact ⟨mc, n, f, hx.at e0, b0, hx.at e1, h2⟩
theorem IsWorks.ext {g : Gh} {σ σ' : Sto} {L v : Nat → Nat} (h : IsWorks g σ L v) (hx : Ext σ σ') : IsWorks g σ' L v := by
  obtain ⟨h0, b0, hT, hP, ht1, hp1, h2⟩ := h
  exact ⟨hx.at h0, b0, hT.ext hx, hP.ext hx, fun t ht => ⟨hx.at (ht1 t ht).1, (ht1 t ht).2⟩, fun q hq => ⟨hx.at (hp1 q hq).1, (hp1 q hq).2⟩, h2⟩
theorem IsWorks.foW {g : Gh} {σ : Sto} {L v : Nat → Nat} (h : IsWorks g σ L v) : Fo g L v (L 0) := ⟨h.2.1, Or.inl rfl⟩
theorem IsWorks.foT {g : Gh} {σ : Sto} {L v : Nat → Nat} (h : IsWorks g σ L v) {t : Nat} (ht : t < v 0) : Fo g L v (L (10 + t)) := ⟨(h.2.2.2.2.1 t ht).2, Or.inr (Or.inr (Or.inr (Or.inr (Or.inr (Or.inl ⟨t, ht, rfl⟩)))))⟩
theorem IsWorks.foP {g : Gh} {σ : Sto} {L v : Nat → Nat} (h : IsWorks g σ L v) {q : Nat} (hq : q < v 1) : Fo g L v (L (100 + q)) := ⟨(h.2.2.2.2.2.1 q hq).2, Or.inr (Or.inr (Or.inr (Or.inr (Or.inr (Or.inr ⟨q, hq, rfl⟩)))))⟩
/-- another works keeps what it is -/
theorem IsWorks.fr {g : Gh} {σ σ' : Sto} {L v L' v' : Nat → Nat} (h : IsWorks g σ L' v') (hx : Fr g σ σ' L v) (hd : ∀ a, Fo g L' v' a → ¬ Fo g L v a) (hc : gCs g) (hB : ∀ a : Nat, a < gB g → σ' a = σ a) : IsWorks g σ' L' v' := by
  have hat : ∀ {a : Nat} {e : va_E}, σ a = some e → (gB g ≤ a → Fo g L' v' a) → σ' a = some e := fun {a e} h0 hf => by
    by_cases hb : gB g ≤ a
    · rw [hx a (by rw [h0]; simp) (hd a (hf hb)), h0]
    · rw [hB a (by omega), h0]
  have hLi : ∀ {tl ea k : Nat} {ad : Nat → Nat}, IsList g σ tl ea k ad → (gB g ≤ tl → Fo g L' v' tl) → (gB g ≤ ea → Fo g L' v' ea) → IsList g σ' tl ea k ad := fun {tl ea k ad} hl q1 q2 => by
    obtain ⟨mc, n, f, e0, b0, e1, h2⟩ := hl
    exact ⟨mc, n, f, hat e0 q1, b0, hat e1 q2, h2⟩
  have f0 := h.foW
  have fT := fun {t : Nat} (ht : t < v' 0) => h.foT ht
  have fP := fun {q : Nat} (hq : q < v' 1) => h.foP hq
  obtain ⟨h0, b0, hT, hP, ht1, hp1, h2⟩ := h
  refine ⟨hat h0 (fun _ => f0), b0, hLi hT ?_ ?_, hLi hP ?_ ?_, fun t ht => ⟨hat (ht1 t ht).1 (fun _ => fT ht), (ht1 t ht).2⟩, fun q hq => ⟨hat (hp1 q hq).1 (fun _ => fP hq), (hp1 q hq).2⟩, h2⟩
  · exact fun b => ⟨b, Or.inr (Or.inl rfl)⟩
  · exact fun b => ⟨b, Or.inr (Or.inr (Or.inr (Or.inl rfl)))⟩
  · exact fun b => ⟨b, Or.inr (Or.inr (Or.inl rfl))⟩
  · exact fun b => ⟨b, Or.inr (Or.inr (Or.inr (Or.inr (Or.inl rfl))))⟩
theorem IsList.setI {g : Gh} {σ : Sto} {tl ea k a n : Nat} {c : ClassId} {f : Nat → Int32} {ad : Nat → Nat} {e : va_E} (h : IsList g σ tl ea k ad) (h0 : σ a = some (.inl (c, n, .inl f))) : IsList g (sset σ a e) tl ea k ad := by
  obtain ⟨mc, n9, f9, e0, b0, e1, h2⟩ := h
  exact ⟨mc, n9, f9, by rw [sset_ne (sto_ne h0 e0 (by simp))]; exact e0, b0, by rw [sset_ne (sto_ne h0 e1 (by simp))]; exact e1, h2⟩
theorem IsWorks.setO {g : Gh} {σ : Sto} {L v : Nat → Nat} {a ci : Nat} {vs : List Value} {e : va_E} (h : IsWorks g σ L v) (h0 : σ a = some (.inr (ci, vs))) (c1 : ci ≠ 1) (c2 : ci ≠ 2) (c8 : ci ≠ 8) (c9 : ci ≠ 9) : IsWorks g (sset σ a e) L v := by
  have q : ∀ {b cj : Nat} {ws : List Value}, σ b = some (.inr (cj, ws)) → ci ≠ cj → sset σ a e b = some (.inr (cj, ws)) := fun {b cj ws} hb hc => by
    rw [sset_ne (sto_ne h0 hb (fun h => hc (by injection h with h; exact (congrArg Prod.fst h))))]; exact hb
  obtain ⟨h0', b0, hT, hP, ht1, hp1, h2⟩ := h
  exact ⟨q h0' c1, b0, hT.setO h0 c2, hP.setO h0 c2, fun t ht => ⟨q (ht1 t ht).1 c8, (ht1 t ht).2⟩, fun t ht => ⟨q (hp1 t ht).1 c9, (hp1 t ht).2⟩, h2⟩
theorem IsWorks.setI {g : Gh} {σ : Sto} {L v : Nat → Nat} {a n : Nat} {c : ClassId} {f : Nat → Int32} {e : va_E} (h : IsWorks g σ L v) (h0 : σ a = some (.inl (c, n, .inl f))) : IsWorks g (sset σ a e) L v := by
  have q : ∀ {b : Nat} {ws : Nat × List Value}, σ b = some (.inr ws) → sset σ a e b = some (.inr ws) := fun {b ws} hb => by
    rw [sset_ne (sto_ne h0 hb (by simp))]; exact hb
  obtain ⟨h0', b0, hT, hP, ht1, hp1, h2⟩ := h
  exact ⟨q h0', b0, hT.setI h0, hP.setI h0, fun t ht => ⟨q (ht1 t ht).1, (ht1 t ht).2⟩, fun t ht => ⟨q (hp1 t ht).1, (hp1 t ht).2⟩, h2⟩
theorem IsWorks.new {g : Gh} {σ : Sto} {L v : Nat → Nat} {q : Nat} {e : va_E} (h : IsWorks g σ L v) (h0 : σ q = none) : IsWorks g (sset σ q e) L v := h.ext (Ext.new h0)
/-- what one pipe's flow of x litres makes of the value -/
def flow1 (v : Nat → Nat) (q x : Nat) : Nat → Nat :=
  upW (upP (upT v (srcv v q) (tC v (srcv v q)) (tK v (srcv v q) - x) (tI v (srcv v q))) q (pA v q) (pB v q) (pM v q) (pV v q) (pR v q) (pD v q) (pL v q + x)) (v 2) (v 3) (v 4) (v 5 + min x (pR v q))
def flow2 (v : Nat → Nat) (q x : Nat) : Nat → Nat :=
  if min x (pR v q) < x then upT (flow1 v q x) (dstv v q) (tC v (dstv v q)) (tK v (dstv v q) + (x - min x (pR v q))) (tI v (dstv v q) ||| clr (tI v (srcv v q)) (pM v q)) else flow1 v q x
def flowv (v : Nat → Nat) (q x : Nat) : Nat → Nat :=
  upP (flow2 v q x) q (pA v q) (pB v q) (pM v q) (pV v q) (pR v q) (min 20 (pD v q + pops (tI v (srcv v q) &&& pM v q))) (pL v q + x)
/-- the first n pipes' turns -/
def flowsN (v : Nat → Nat) : Nat → Nat → Nat
  | 0 => upW v (v 2 + 1) (v 3) (v 4) (v 5)
  | n + 1 => if 0 < lit (flowsN v n) n then flowv (flowsN v n) n (lit (flowsN v n) n) else flowsN v n
def minv (v : Nat → Nat) : Nat → Nat := flowsN v (v 1)
theorem fl_end {g : Gh} {σ : Sto} {L v : Nat → Nat} {q x s d : Nat} (h : IsWorks g σ L v) (hq : q < v 1) (hs : s < v 0) (hd : d < v 0) (h8 : v 0 ≤ 8) (es : srcv v q = s) (ed : dstv v q = d) :
    (¬ x ≤ min x (pR v q) → IsWorks g (sset (sset (sset (sset (sset σ (L (10 + s)) (oTank (tC v s) (tK v s - x) (tI v s))) (L (100 + q)) (oPipe (pA v q) (pB v q) (pM v q) (pV v q) (pR v q) (pD v q) (pL v q + x))) (L 0) (.inr (1, [.ref (L 1), .ref (L 2), .int (nI (v 2)), .int (nI (v 3)), .int (nI (v 4)), .int (nI (v 5 + min x (pR v q)))]))) (L (10 + d)) (oTank (tC v d) (tK v d + (x - min x (pR v q))) (tI v d ||| clr (tI v s) (pM v q)))) (L (100 + q)) (oPipe (pA v q) (pB v q) (pM v q) (pV v q) (pR v q) (min 20 (pD v q + pops (tI v s &&& pM v q))) (pL v q + x))) L (flowv v q x)) ∧
    (x ≤ min x (pR v q) → IsWorks g (sset (sset (sset (sset σ (L (10 + s)) (oTank (tC v s) (tK v s - x) (tI v s))) (L (100 + q)) (oPipe (pA v q) (pB v q) (pM v q) (pV v q) (pR v q) (pD v q) (pL v q + x))) (L 0) (.inr (1, [.ref (L 1), .ref (L 2), .int (nI (v 2)), .int (nI (v 3)), .int (nI (v 4)), .int (nI (v 5 + min x (pR v q)))]))) (L (100 + q)) (oPipe (pA v q) (pB v q) (pM v q) (pV v q) (pR v q) (min 20 (pD v q + pops (tI v s &&& pM v q))) (pL v q + x))) L (flowv v q x)) := by
  have a1 := h.setT (c := tC v s) (k := tK v s - x) (i := tI v s) hs (by omega)
  have z0 : ∀ c k i, upT v s c k i 0 = v 0 := fun c k i => upT_lo (by omega)
  have z1 : ∀ c k i, upT v s c k i 1 = v 1 := fun c k i => upT_lo (by omega)
  have a2 := a1.setP (q := q) (a := pA v q) (b := pB v q) (m := pM v q) (s := pV v q) (r := pR v q) (d := pD v q) (l := pL v q + x) (by rw [z1]; exact hq) (by rw [z0]; exact h8)
  have a3 := a2.setW (t := v 2) (p := v 3) (d := v 4) (s := v 5 + min x (pR v q)) (by rw [upP_lo (by omega), z0]; exact h8)
  have e1 : flow1 v q x = upW (upP (upT v s (tC v s) (tK v s - x) (tI v s)) q (pA v q) (pB v q) (pM v q) (pV v q) (pR v q) (pD v q) (pL v q + x)) (v 2) (v 3) (v 4) (v 5 + min x (pR v q)) := by
    rw [flow1, es]
  have y0 : flow1 v q x 0 = v 0 := by rw [e1, upW_lo (by omega), upP_lo (by omega), z0]
  have y1 : flow1 v q x 1 = v 1 := by rw [e1, upW_lo (by omega), upP_lo (by omega), z1]
  rw [← e1] at a3
  refine ⟨fun hx => ?_, fun hx => ?_⟩
  · have a4 := a3.setT (t := d) (c := tC v d) (k := tK v d + (x - min x (pR v q))) (i := tI v d ||| clr (tI v s) (pM v q)) (by rw [y0]; exact hd) (by omega)
    have e2 : flow2 v q x = upT (flow1 v q x) d (tC v d) (tK v d + (x - min x (pR v q))) (tI v d ||| clr (tI v s) (pM v q)) := by
      rw [flow2, if_pos (by omega), es, ed]
    rw [← e2] at a4
    have a5 := a4.setP (q := q) (a := pA v q) (b := pB v q) (m := pM v q) (s := pV v q) (r := pR v q) (d := min 20 (pD v q + pops (tI v s &&& pM v q))) (l := pL v q + x) (by rw [e2, upT_lo (by omega), y1]; exact hq) (by rw [e2, upT_lo (by omega), y0]; exact h8)
    rw [flowv, es]
    exact a5
  · have e2 : flow2 v q x = flow1 v q x := by
      rw [flow2, if_neg (by omega)]
    rw [← e2] at a3
    have a5 := a3.setP (q := q) (a := pA v q) (b := pB v q) (m := pM v q) (s := pV v q) (r := pR v q) (d := min 20 (pD v q + pops (tI v s &&& pM v q))) (l := pL v q + x) (by rw [e2, y1]; exact hq) (by rw [e2, y0]; exact h8)
    rw [flowv, es]
    exact a5
theorem src_ne_dst {v : Nat → Nat} {q : Nat} (h : pA v q ≠ pB v q) : srcv v q ≠ dstv v q := by
  unfold srcv dstv
  split
  · exact h
  · exact h.symm
theorem lit_bd {v : Nat → Nat} {q : Nat} (h : 0 < lit v q) : lit v q ≤ (tK v (srcv v q) - tK v (dstv v q)) / 2 ∧ lit v q ≤ tC v (dstv v q) - tK v (dstv v q) := by
  have ho : opv v q = true := lit_pos h
  have e : lit v q = min (5 * pV v q) (min ((tK v (srcv v q) - tK v (dstv v q)) / 2) (tC v (dstv v q) - tK v (dstv v q))) := if_pos ho
  omega
theorem flow1_T {v : Nat → Nat} {q x t : Nat} (ht : t < 8) : tC (flow1 v q x) t = tC v t ∧ tK (flow1 v q x) t = (if t = srcv v q then tK v t - x else tK v t) ∧ tI (flow1 v q x) t = tI v t := by
  have e : ∀ j, 6 ≤ j → j < 30 → flow1 v q x j = upT v (srcv v q) (tC v (srcv v q)) (tK v (srcv v q) - x) (tI v (srcv v q)) j := fun j h1 h2 => by rw [flow1, upW_lo (by omega), upP_lo (by omega)]
  by_cases hs : t = srcv v q
  · rw [if_pos hs, tC, tK, tI, e _ (by omega) (by omega), e _ (by omega) (by omega), e _ (by omega) (by omega)]
    obtain ⟨x1, x2, x3⟩ := upT_tan (v := v) (t := t) (c := tC v t) (k := tK v t - x) (i := tI v t)
    rw [← hs]
    exact ⟨x1, x2, x3⟩
  · rw [if_neg hs, tC, tK, tI, e _ (by omega) (by omega), e _ (by omega) (by omega), e _ (by omega) (by omega)]
    exact upT_tan' hs
theorem flow2_T {v : Nat → Nat} {q x t : Nat} (ht : t < 8) (hne : srcv v q ≠ dstv v q) : tC (flow2 v q x) t = tC v t ∧ tK (flow2 v q x) t = (if t = srcv v q then tK v t - x else if t = dstv v q then tK v t + (x - min x (pR v q)) else tK v t) ∧
    tI (flow2 v q x) t = (if t = dstv v q ∧ min x (pR v q) < x then tI v t ||| clr (tI v (srcv v q)) (pM v q) else tI v t) := by
  obtain ⟨y1, y2, y3⟩ := flow1_T (v := v) (q := q) (x := x) ht
  unfold flow2
  by_cases hx : min x (pR v q) < x
  · rw [if_pos hx]
    by_cases hd : t = dstv v q
    · subst hd
      obtain ⟨x1, x2, x3⟩ := upT_tan (v := flow1 v q x) (t := dstv v q) (c := tC v (dstv v q)) (k := tK v (dstv v q) + (x - min x (pR v q))) (i := tI v (dstv v q) ||| clr (tI v (srcv v q)) (pM v q))
      rw [if_neg (Ne.symm hne), if_pos rfl, if_pos ⟨rfl, hx⟩]
      exact ⟨x1, x2, x3⟩
    · obtain ⟨x1, x2, x3⟩ := upT_tan' (v := flow1 v q x) (t := dstv v q) (c := tC v (dstv v q)) (k := tK v (dstv v q) + (x - min x (pR v q))) (i := tI v (dstv v q) ||| clr (tI v (srcv v q)) (pM v q)) hd
      rw [if_neg (show ¬ (t = dstv v q ∧ min x (pR v q) < x) from fun h => hd h.1), x1, x2, x3, y1, y2, y3, if_neg hd]
      exact ⟨rfl, rfl, rfl⟩
  · rw [if_neg hx, y1, y2, y3, if_neg (show ¬ (t = dstv v q ∧ min x (pR v q) < x) from fun h => hx h.2)]
    refine ⟨rfl, ?_, rfl⟩
    split
    · rfl
    · split
      · omega
      · rfl
theorem flowv_T {v : Nat → Nat} {q x t : Nat} (ht : t < 8) (hne : srcv v q ≠ dstv v q) : tC (flowv v q x) t = tC v t ∧ tK (flowv v q x) t = (if t = srcv v q then tK v t - x else if t = dstv v q then tK v t + (x - min x (pR v q)) else tK v t) ∧
    tI (flowv v q x) t = (if t = dstv v q ∧ min x (pR v q) < x then tI v t ||| clr (tI v (srcv v q)) (pM v q) else tI v t) := by
  have e : ∀ j, j < 30 → flowv v q x j = flow2 v q x j := fun j h1 => by rw [flowv, upP_lo (by omega)]
  rw [tC, tK, tI, e _ (by omega), e _ (by omega), e _ (by omega)]
  exact flow2_T ht hne
theorem flow2_P {v : Nat → Nat} {q x j : Nat} (hs : srcv v q < 8) (hd : dstv v q < 8) (hj : 30 ≤ j) (hq : j < 30 + 7 * q ∨ 37 + 7 * q ≤ j) : flow2 v q x j = v j := by
  have e : flow1 v q x j = v j := by rw [flow1, upW_lo (by omega), upP_lo hq, upT_lo (by omega)]
  unfold flow2
  split
  · rw [upT_lo (by omega), e]
  · exact e
theorem flowv_P {v : Nat → Nat} {q x j : Nat} (hs : srcv v q < 8) (hd : dstv v q < 8) (h : j ≠ q) : pA (flowv v q x) j = pA v j ∧ pB (flowv v q x) j = pB v j ∧ pM (flowv v q x) j = pM v j ∧ pV (flowv v q x) j = pV v j ∧ pR (flowv v q x) j = pR v j ∧ pD (flowv v q x) j = pD v j ∧ pL (flowv v q x) j = pL v j := by
  obtain ⟨x1, x2, x3, x4, x5, x6, x7⟩ := upP_pip' (v := flow2 v q x) (q := q) (a := pA v q) (b := pB v q) (m := pM v q) (s := pV v q) (r := pR v q) (d := min 20 (pD v q + pops (tI v (srcv v q) &&& pM v q))) (l := pL v q + x) h
  rw [flowv, x1, x2, x3, x4, x5, x6, x7, pA, pB, pM, pV, pR, pD, pL, flow2_P hs hd (by omega) (by omega), flow2_P hs hd (by omega) (by omega), flow2_P hs hd (by omega) (by omega), flow2_P hs hd (by omega) (by omega), flow2_P hs hd (by omega) (by omega), flow2_P hs hd (by omega) (by omega), flow2_P hs hd (by omega) (by omega)]
  exact ⟨rfl, rfl, rfl, rfl, rfl, rfl, rfl⟩
theorem flowv_Q {v : Nat → Nat} {q x : Nat} : pA (flowv v q x) q = pA v q ∧ pB (flowv v q x) q = pB v q ∧ pM (flowv v q x) q = pM v q ∧ pV (flowv v q x) q = pV v q ∧ pR (flowv v q x) q = pR v q ∧ pD (flowv v q x) q = min 20 (pD v q + pops (tI v (srcv v q) &&& pM v q)) ∧ pL (flowv v q x) q = pL v q + x := upP_pip
theorem flowv_0 {v : Nat → Nat} {q x j : Nat} (hj : j < 2) : flowv v q x j = v j := by
  have e : flow1 v q x j = v j := by rw [flow1, upW_lo (by omega), upP_lo (by omega), upT_lo (by omega)]
  rw [flowv, upP_lo (by omega)]
  unfold flow2
  split
  · rw [upT_lo (by omega), e]
  · exact e
theorem flowv_W {v : Nat → Nat} {q x : Nat} : flowv v q x 2 = v 2 ∧ flowv v q x 3 = v 3 ∧ flowv v q x 4 = v 4 ∧ flowv v q x 5 = v 5 + min x (pR v q) := by
  have e : ∀ j, j < 6 → flowv v q x j = flow1 v q x j := fun j hj => by
    rw [flowv, upP_lo (by omega)]
    unfold flow2
    split
    · rw [upT_lo (by omega)]
    · rfl
  rw [e 2 (by omega), e 3 (by omega), e 4 (by omega), e 5 (by omega)]
  simp [flow1, upW, va_up]
/-- sums under a change at two tanks -/
theorem sumK_move {v w : Nat → Nat} {s d x y : Nat} (hne : s ≠ d) (hx : x ≤ tK v s) : ∀ n, (∀ t, t < n → tK w t = (if t = s then tK v t - x else if t = d then tK v t + y else tK v t)) → sumK w n + (if s < n then x else 0) = sumK v n + (if d < n then y else 0) := by
  intro n
  induction n with
  | zero => intro _; rfl
  | succ n ih =>
    intro h
    have h1 := ih (fun t ht => h t (by omega))
    have h2 := h n (by omega)
    show sumK w n + tK w n + _ = sumK v n + tK v n + _
    rw [h2]
    by_cases hs : n = s
    · subst hs
      rw [if_pos rfl]
      rw [if_neg (by omega)] at h1
      rw [if_pos (by omega)]
      by_cases hd : d < n
      · rw [if_pos hd] at h1
        rw [if_pos (by omega)]
        omega
      · rw [if_neg hd] at h1
        rw [if_neg (by omega)]
        omega
    · rw [if_neg hs]
      by_cases hd : n = d
      · subst hd
        rw [if_pos rfl]
        rw [if_neg (by omega : ¬ n < n)] at h1
        rw [if_pos (by omega : n < n + 1)]
        by_cases hs2 : s < n
        · rw [if_pos hs2] at h1
          rw [if_pos (by omega)]
          omega
        · rw [if_neg hs2] at h1
          rw [if_neg (by omega)]
          omega
      · rw [if_neg hd]
        have q1 : (s < n + 1) = (s < n) := by apply propext; omega
        have q2 : (d < n + 1) = (d < n) := by apply propext; omega
        simp only [q1, q2]
        omega
theorem Inv.sd {v : Nat → Nat} (h : Inv v) {q : Nat} (hq : q < v 1) : srcv v q < v 0 ∧ dstv v q < v 0 ∧ srcv v q ≠ dstv v q := by
  obtain ⟨a, b, c, -⟩ := h.pp hq
  refine ⟨?_, ?_, src_ne_dst c⟩
  · unfold srcv; split <;> assumption
  · unfold dstv; split <;> assumption
theorem Inv.flow {v : Nat → Nat} (h : Inv v) {q : Nat} (hq : q < v 1) (hx : 0 < lit v q) : Inv (flowv v q (lit v q)) := by
  obtain ⟨hs, hd, hne⟩ := h.sd hq
  obtain ⟨b1, b2⟩ := lit_bd hx
  have h0 := h.1
  have e0 : flowv v q (lit v q) 0 = v 0 := flowv_0 (by omega)
  have e1 : flowv v q (lit v q) 1 = v 1 := flowv_0 (by omega)
  have hsk := h.tk hs
  have hdk := h.tk hd
  have hpq := h.pp hq
  obtain ⟨w2, w3, w4, w5⟩ := flowv_W (v := v) (q := q) (x := lit v q)
  refine ⟨by rw [e0]; exact h.1, by rw [e1]; exact h.2.1, fun t ht => ?_, fun p hp => ?_, ?_⟩
  · rw [e0] at ht
    obtain ⟨x1, x2, x3⟩ := flowv_T (v := v) (q := q) (x := lit v q) (t := t) (by omega) hne
    have htk := h.tk ht
    rw [x1, x2, x3]
    refine ⟨htk.1, htk.2.1, ?_, ?_⟩
    · split
      · omega
      · split
        · rename_i _ e
          subst e
          omega
        · exact htk.2.2.1
    · split
      · exact or_lt8 htk.2.2.2 (clr_lt hsk.2.2.2)
      · exact htk.2.2.2
  · rw [e1] at hp
    by_cases e : p = q
    · subst e
      obtain ⟨x1, x2, x3, x4, x5, x6, x7⟩ := flowv_Q (v := v) (q := p) (x := lit v p)
      rw [x1, x2, x3, x4, x5, x6, e0]
      exact ⟨hpq.1, hpq.2.1, hpq.2.2.1, hpq.2.2.2.1, hpq.2.2.2.2.1, hpq.2.2.2.2.2.1, Nat.min_le_left _ _⟩
    · obtain ⟨x1, x2, x3, x4, x5, x6, x7⟩ := flowv_P (v := v) (q := q) (x := lit v q) (j := p) (by omega) (by omega) e
      rw [x1, x2, x3, x4, x5, x6, e0]
      exact h.pp hp
  · rw [w3, w4, w5, e0]
    have hm := sumK_move (v := v) (w := flowv v q (lit v q)) (s := srcv v q) (d := dstv v q) (x := lit v q) (y := lit v q - min (lit v q) (pR v q)) hne (by omega) (v 0) (fun t ht => (flowv_T (by omega) hne).2.1)
    rw [if_pos hs, if_pos hd] at hm
    have := h.2.2.2.2
    omega
theorem flowsN_0 {v : Nat → Nat} {n j : Nat} (hj : j < 2) : flowsN v n j = v j := by
  induction n with
  | zero => exact upW_lo (by omega)
  | succ n ih =>
    rw [flowsN]
    split
    · rw [flowv_0 hj, ih]
    · exact ih
theorem sumK_congr {v w : Nat → Nat} : ∀ n, (∀ t, t < n → tK w t = tK v t) → sumK w n = sumK v n
  | 0, _ => rfl
  | n + 1, h => by
    show sumK w n + tK w n = sumK v n + tK v n
    rw [sumK_congr n (fun t ht => h t (by omega)), h n (by omega)]
theorem inv_upW {v : Nat → Nat} (h : Inv v) {t p d s : Nat} (hp : p = d + s + sumK v (v 0)) : Inv (upW v t p d s) := by
  have e : ∀ j, j < 2 ∨ 6 ≤ j → upW v t p d s j = v j := fun j hj => upW_lo hj
  have e3 : upW v t p d s 3 = p ∧ upW v t p d s 4 = d ∧ upW v t p d s 5 = s := by simp [upW, va_up]
  refine ⟨by rw [e 0 (by omega)]; exact h.1, by rw [e 1 (by omega)]; exact h.2.1, fun t ht => ?_, fun q hq => ?_, ?_⟩
  · rw [e 0 (by omega)] at ht
    rw [tC, tK, tI, e _ (by omega), e _ (by omega), e _ (by omega)]
    exact h.tk ht
  · rw [e 1 (by omega)] at hq
    rw [pA, pB, pM, pV, pR, pD, e 0 (by omega), e (30 + 7 * q) (by omega), e (30 + 7 * q + 1) (by omega), e (30 + 7 * q + 2) (by omega), e (30 + 7 * q + 3) (by omega), e (30 + 7 * q + 4) (by omega), e (30 + 7 * q + 5) (by omega)]
    exact h.pp hq
  · rw [e3.1, e3.2.1, e3.2.2, e 0 (by omega), sumK_congr (v := v) (v 0) (fun t _ => e _ (by omega))]
    exact hp
theorem inv_flowsN {v : Nat → Nat} (h : Inv v) : ∀ n, n ≤ v 1 → Inv (flowsN v n)
  | 0, _ => inv_upW h h.2.2.2.2
  | n + 1, hn => by
    have h1 := inv_flowsN h n (by omega)
    rw [flowsN]
    split
    · exact h1.flow (by rw [flowsN_0 (by omega)]; omega) (by assumption)
    · exact h1
theorem inv_minv {v : Nat → Nat} (h : Inv v) : Inv (minv v) := inv_flowsN h _ (Nat.le_refl _)
