/-! ===== one abstract store for the whole heap: worlds, rows ===== -/
set_option maxRecDepth 100000
abbrev Sto : Type := Nat → Option va_E
/-- what a run never changes: class numbers, array classes, the heap at the start, where the statics' and the texts' cells lie, the store of the start -/
abbrev Gh : Type := va_G × (Nat → ClassId) × Heap × (Nat → Nat) × (String → Nat → Nat) × Sto
abbrev gD (g : Gh) : va_G := g.1
abbrev gT (g : Gh) : Nat → ClassId := g.2.1
abbrev gH (g : Gh) : Heap := g.2.2.1
abbrev gA (g : Gh) : Nat → Nat := g.2.2.2.1
abbrev gS (g : Gh) : String → Nat → Nat := g.2.2.2.2.1
abbrev gK (g : Gh) : Sto := g.2.2.2.2.2
abbrev gB (g : Gh) : Nat := g.2.2.1.size
def sset (σ : Sto) (a : Nat) (e : va_E) : Sto := fun b => if b = a then some e else σ b
theorem sset_eq {σ : Sto} {a : Nat} {e : va_E} : sset σ a e a = some e := if_pos rfl
theorem sset_ne {σ : Sto} {a b : Nat} {e : va_E} (h : b ≠ a) : sset σ a e b = σ b := if_neg h
theorem sset_sset {σ : Sto} {a : Nat} {e e' : va_E} : sset (sset σ a e) a e' = sset σ a e' := by
  funext b
  by_cases h : b = a
  · rw [h, sset_eq, sset_eq]
  · rw [sset_ne h, sset_ne h, sset_ne h]
theorem sset_id {σ : Sto} {a : Nat} {e : va_E} (h : σ a = some e) : sset σ a e = σ := by
  funext b
  by_cases hb : b = a
  · rw [hb, sset_eq, h]
  · rw [sset_ne hb]
theorem sset_comm {σ : Sto} {a b : Nat} {e e' : va_E} (h : a ≠ b) : sset (sset σ a e) b e' = sset (sset σ b e') a e := by
  funext x
  by_cases h1 : x = b
  · rw [h1, sset_eq, sset_ne (Ne.symm h), sset_eq]
  · by_cases h2 : x = a
    · rw [h2, sset_ne h, sset_eq, sset_eq]
    · rw [sset_ne h1, sset_ne h2, sset_ne h2, sset_ne h1]
/-- the classes whose objects a store can hold -/
abbrev vCl : List vw_C := [(RX1, TX1, 7), (RX2, TX2, 6), (RJ2, TJ2, 3), (RJ4, TJ4, 4), (RJ21, TJ21, 3), (RJ6, TJ6, 4), (RJ7, TJ7, 4), (RX3, TX3, 18), (RX4, TX4, 3), (RX5, TX5, 7), (RX6, TX6, 2), (RX12, TX12, 2), (RX9, TX9, 4), (RX10, TX10, 5), (RX11, TX11, 2), (RX8, TX8, 7), (RX13, TX13, 7), (RX14, TX14, 7), (RJ14, TJ14, 0), (RJ20, TJ20, 0), (RJ24, TJ24, 0), (RJ25, TJ25, 0), (RJ23, TJ23, 0), (RJ28, TJ28, 0), (RX15, TX4, 0), (RX16, TX4, 0)]
abbrev gTys (g : Gh) : List (ClassId × FieldType) := [(gT g 0, .int), (gT g 1, .byte), (gT g 2, .boolean), (gT g 3, .char), (gT g 4, .long), (gT g 5, .double), (gT g 6, .object "java/lang/Object")]
/-- an object of one of the claim's own failures -/
def exo (e : va_E) : Prop := match e with
  | .inl _ => False
  | .inr o => 15 ≤ o.1 ∧ o.1 ≤ 17
/-- a cell of the heap is as the store says; a cell made since the start is plain -/
def sAt (g : Gh) (H : Heap) (a : Nat) (e : va_E) : Prop := ∃ cell : Cell, H[a]? = some cell ∧ cell.vm.isStatics = false ∧ cell.vm ≠ .unknown ∧ (gB g ≤ a → cell.vm = .none ∧ (exo e → cell.monitor.owner = none ∧ cell.monitor.count = 0)) ∧ match e with
  | .inl x => cell.cls = x.1 ∧ cell.slots = (vp_cell x.1 x.2).slots ∧ (gB g ≤ a → cell = vp_cell x.1 x.2)
  | .inr o => ∃ r : vw_C, vCl[o.1]? = some r ∧ cell.cls = (gD g).1 o.1 ∧ ∀ k, k < r.2.2 → cell.slots[(gD g).2 o.1 k]? = some (vp_V o.2 k)
def Hp (g : Gh) (σ : Sto) (H : Heap) : Prop := (∀ (a : Nat) (e : va_E), σ a = some e → sAt g H a e) ∧ gB g ≤ H.size ∧ (∀ q : Nat, q < gB g → H[q]? = (gH g)[q]?) ∧ ∀ q : Nat, q < gB g → σ q = gK g q
def Hl (g : Gh) (σ : Sto) (H : Heap) (locs : List Loc) : Prop := Hp g σ H ∧ ∀ q ∈ locs, gB g ≤ q.base
theorem sAt.lt {g : Gh} {H : Heap} {a : Nat} {e : va_E} (h : sAt g H a e) : a < H.size := by
  obtain ⟨cell, h1, -⟩ := h
  exact (Array.getElem?_eq_some_iff.mp h1).1
theorem sAt.kept {g : Gh} {H H1 : Heap} {a : Nat} {e : va_E} (h : sAt g H a e) (hq : H1[a]? = H[a]?) : sAt g H1 a e := by
  obtain ⟨cell, h1, h2⟩ := h
  exact ⟨cell, hq.trans h1, h2⟩
theorem Hp.lt {g : Gh} {σ : Sto} {H : Heap} (h : Hp g σ H) {a : Nat} {e : va_E} (he : σ a = some e) : a < H.size := (h.1 a e he).lt
theorem Hp.fresh {g : Gh} {σ : Sto} {H : Heap} (h : Hp g σ H) {a : Nat} (ha : H.size ≤ a) : σ a = none := by
  cases he : σ a with
  | none => rfl
  | some e => exact absurd (h.lt he) (Nat.not_lt.mpr ha)
/-- one cell written, the others as they were -/
theorem Hp.set {g : Gh} {σ : Sto} {H H1 : Heap} (h : Hp g σ H) {a : Nat} {e : va_E} (hb : gB g ≤ a) (hz : H1.size = H.size) (ho : ∀ q : Nat, q ≠ a → H1[q]? = H[q]?) (he : sAt g H1 a e) : Hp g (sset σ a e) H1 := by
  refine ⟨fun b x hx => ?_, by rw [hz]; exact h.2.1, fun q hq => ?_, fun q hq => ?_⟩
  · by_cases hba : b = a
    · subst hba
      rw [sset_eq] at hx
      cases hx
      exact he
    · rw [sset_ne hba] at hx
      exact (h.1 b x hx).kept (ho b hba)
  · rw [ho q (by intro e9; rw [e9] at hq; exact absurd hb (Nat.not_le.mpr hq))]
    exact h.2.2.1 q hq
  · rw [sset_ne (by intro e9; rw [e9] at hq; exact absurd hb (Nat.not_le.mpr hq))]
    exact h.2.2.2 q hq
/-- one cell made -/
theorem Hp.push {g : Gh} {σ : Sto} {H H1 : Heap} (h : Hp g σ H) {a : Nat} {e : va_E} (ha : a = H.size) (hz : H.size ≤ H1.size) (ho : ∀ q : Nat, q < a → H1[q]? = H[q]?) (he : sAt g H1 a e) : Hp g (sset σ a e) H1 := by
  subst ha
  refine ⟨fun b x hx => ?_, Nat.le_trans h.2.1 hz, fun q hq => ?_, fun q hq => ?_⟩
  · by_cases hba : b = H.size
    · subst hba
      rw [sset_eq] at hx
      cases hx
      exact he
    · rw [sset_ne hba] at hx
      exact (h.1 b x hx).kept (ho b (h.lt hx))
  · rw [ho q (Nat.lt_of_lt_of_le hq h.2.1)]
    exact h.2.2.1 q hq
  · rw [sset_ne (Nat.ne_of_lt (Nat.lt_of_lt_of_le hq h.2.1))]
    exact h.2.2.2 q hq
theorem Hl.lc {g : Gh} {σ : Sto} {H H1 : Heap} {locs : List Loc} {a i : Nat} (h : Hl g σ H locs) (hb : gB g ≤ a) {σ1 : Sto} (h1 : Hp g σ1 H1) : Hl g σ1 H1 (locs ++ [⟨a, i⟩]) := by
  refine ⟨h1, fun q hq => ?_⟩
  rcases List.mem_append.mp hq with h2 | h2
  · exact h.2 q h2
  · rw [List.mem_singleton.mp h2]
    exact hb
theorem Hl.lL {g : Gh} {σ : Sto} {H H1 : Heap} {locs L : List Loc} (h : Hl g σ H locs) (hb : ∀ q ∈ L, gB g ≤ q.base) {σ1 : Sto} (h1 : Hp g σ1 H1) : Hl g σ1 H1 (locs ++ L) := by
  refine ⟨h1, fun q hq => ?_⟩
  rcases List.mem_append.mp hq with h2 | h2
  · exact h.2 q h2
  · exact hb q h2
/-- a text: its letters as naturals below 128; a String object of these letters -/
def hashN (L : List Nat) : Int32 := L.foldl (fun h c => 31 * h + nI c) 0
def hashOk (L : List Nat) (h z : Int32) : Prop := (h = 0 ∧ z = 0) ∨ (h = hashN L ∧ h ≠ 0 ∧ z = 0) ∨ (h = 0 ∧ hashN L = 0 ∧ z = 1)
/-- .. asked before -/
def hashDn (L : List Nat) (h z : Int32) : Prop := (h = hashN L ∧ h ≠ 0 ∧ z = 0) ∨ (h = 0 ∧ hashN L = 0 ∧ z = 1)
abbrev bts (L : List Nat) : Nat → Int32 := fun j => nI (L.getD j 0)
def IsStr (g : Gh) (σ : Sto) (a : Nat) (L : List Nat) : Prop := ∃ (v : Nat) (h z : Int32), σ a = some (.inr (6, [.ref v, .int 0, .int h, .int z])) ∧ hashOk L h z ∧ σ v = some (.inl (gT g 1, L.length, .inl (bts L))) ∧ ∀ c ∈ L, c < 128
/-- a text constant: its hash was asked before -/
def IsStrC (g : Gh) (σ : Sto) (a : Nat) (L : List Nat) : Prop := ∃ (v : Nat) (h z : Int32), σ a = some (.inr (6, [.ref v, .int 0, .int h, .int z])) ∧ hashDn L h z ∧ σ v = some (.inl (gT g 1, L.length, .inl (bts L))) ∧ ∀ c ∈ L, c < 128
abbrev tN (tx : String) : List Nat := tx.toList.map Char.toNat
/-- the interfaces' calls: a receiver's class, the named method, the selected one -/
def nwI : List (String × MethodName × MethodName) := [("java/util/ArrayList", ⟨"java/util/List", "size", "()I"⟩, ⟨"java/util/ArrayList", "size", "()I"⟩), ("java/util/ArrayList", ⟨"java/util/List", "get", "(I)Ljava/lang/Object;"⟩, ⟨"java/util/ArrayList", "get", "(I)Ljava/lang/Object;"⟩), ("java/util/ArrayList", ⟨"java/util/List", "add", "(Ljava/lang/Object;)Z"⟩, ⟨"java/util/ArrayList", "add", "(Ljava/lang/Object;)Z"⟩), ("java/lang/String", ⟨"java/lang/CharSequence", "toString", "()Ljava/lang/String;"⟩, ⟨"java/lang/String", "toString", "()Ljava/lang/String;"⟩)]
abbrev gSt (g : Gh) : List (String × String × String × Value) := [("java/util/ArrayList", "DEFAULTCAPACITY_EMPTY_ELEMENTDATA", "[Ljava/lang/Object;", .ref (gA g 0)), ("java/lang/String", "COMPACT_STRINGS", "Z", .int 1), ("java/lang/Integer", "DigitOnes", "[B", .ref (gA g 1)), ("java/lang/Integer", "DigitTens", "[B", .ref (gA g 2)), ("FilterWaterworks", "COUNTS", "[I", .ref (gA g 3)), ("FilterWaterworks$Direction", "FORWARD", "LFilterWaterworks$Direction;", .ref (gA g 4)), ("FilterWaterworks$Direction", "BACKWARD", "LFilterWaterworks$Direction;", .ref (gA g 5))]
/-- pairs of classes, the first no subclass of the second (narrow_1) -/
def nwX : List (String × String) := [("FilterWaterworks$CommandFailure", "FilterWaterworks$SyntaxFailure"), ("FilterWaterworks$CommandFailure", "java/lang/ArithmeticException"), ("FilterWaterworks$CommandFailure", "java/lang/IllegalArgumentException"), ("FilterWaterworks$CommandFailure", "java/lang/IllegalStateException"), ("FilterWaterworks$CommandFailure", "java/lang/IndexOutOfBoundsException"), ("FilterWaterworks$CommandFailure", "java/lang/UnsupportedOperationException"), ("FilterWaterworks$CommandFailure", "java/util/NoSuchElementException"), ("FilterWaterworks$ConditionFailure", "FilterWaterworks$CommandFailure"), ("FilterWaterworks$ConditionFailure", "FilterWaterworks$SyntaxFailure"), ("FilterWaterworks$ConditionFailure", "java/lang/ArithmeticException"), ("FilterWaterworks$ConditionFailure", "java/lang/IllegalArgumentException"), ("FilterWaterworks$ConditionFailure", "java/lang/IllegalStateException"), ("FilterWaterworks$ConditionFailure", "java/lang/IndexOutOfBoundsException"), ("FilterWaterworks$ConditionFailure", "java/lang/UnsupportedOperationException"), ("FilterWaterworks$ConditionFailure", "java/util/NoSuchElementException"), ("FilterWaterworks$SyntaxFailure", "FilterWaterworks$CommandFailure"), ("FilterWaterworks$SyntaxFailure", "java/lang/ArithmeticException"), ("FilterWaterworks$SyntaxFailure", "java/lang/IllegalArgumentException"), ("FilterWaterworks$SyntaxFailure", "java/lang/IllegalStateException"), ("FilterWaterworks$SyntaxFailure", "java/lang/IndexOutOfBoundsException"), ("FilterWaterworks$SyntaxFailure", "java/lang/UnsupportedOperationException"), ("FilterWaterworks$SyntaxFailure", "java/util/NoSuchElementException"), ("java/lang/ArithmeticException", "FilterWaterworks$CommandFailure"), ("java/lang/ArithmeticException", "FilterWaterworks$Failure"), ("java/lang/ArithmeticException", "FilterWaterworks$SyntaxFailure"), ("java/lang/ArithmeticException", "java/lang/IllegalArgumentException"), ("java/lang/ArithmeticException", "java/lang/IllegalStateException"), ("java/lang/ArithmeticException", "java/lang/IndexOutOfBoundsException"), ("java/lang/ArithmeticException", "java/lang/UnsupportedOperationException"), ("java/lang/ArithmeticException", "java/util/NoSuchElementException"), ("java/lang/IllegalArgumentException", "FilterWaterworks$CommandFailure"), ("java/lang/IllegalArgumentException", "FilterWaterworks$Failure"), ("java/lang/IllegalArgumentException", "FilterWaterworks$SyntaxFailure"), ("java/lang/IllegalArgumentException", "java/lang/ArithmeticException"), ("java/lang/IllegalArgumentException", "java/lang/IllegalStateException"), ("java/lang/IllegalArgumentException", "java/lang/IndexOutOfBoundsException"), ("java/lang/IllegalArgumentException", "java/lang/UnsupportedOperationException"), ("java/lang/IllegalArgumentException", "java/util/NoSuchElementException"), ("java/lang/IllegalStateException", "FilterWaterworks$CommandFailure"), ("java/lang/IllegalStateException", "FilterWaterworks$Failure"), ("java/lang/IllegalStateException", "FilterWaterworks$SyntaxFailure"), ("java/lang/IllegalStateException", "java/lang/ArithmeticException"), ("java/lang/IllegalStateException", "java/lang/IllegalArgumentException"), ("java/lang/IllegalStateException", "java/lang/IndexOutOfBoundsException"), ("java/lang/IllegalStateException", "java/lang/UnsupportedOperationException"), ("java/lang/IllegalStateException", "java/util/NoSuchElementException"), ("java/lang/IndexOutOfBoundsException", "FilterWaterworks$CommandFailure"), ("java/lang/IndexOutOfBoundsException", "FilterWaterworks$Failure"), ("java/lang/IndexOutOfBoundsException", "FilterWaterworks$SyntaxFailure"), ("java/lang/IndexOutOfBoundsException", "java/lang/ArithmeticException"), ("java/lang/IndexOutOfBoundsException", "java/lang/IllegalArgumentException"), ("java/lang/IndexOutOfBoundsException", "java/lang/IllegalStateException"), ("java/lang/IndexOutOfBoundsException", "java/lang/UnsupportedOperationException"), ("java/lang/IndexOutOfBoundsException", "java/util/NoSuchElementException"), ("java/lang/UnsupportedOperationException", "FilterWaterworks$CommandFailure"), ("java/lang/UnsupportedOperationException", "FilterWaterworks$Failure"), ("java/lang/UnsupportedOperationException", "FilterWaterworks$SyntaxFailure"), ("java/lang/UnsupportedOperationException", "java/lang/ArithmeticException"), ("java/lang/UnsupportedOperationException", "java/lang/IllegalArgumentException"), ("java/lang/UnsupportedOperationException", "java/lang/IllegalStateException"), ("java/lang/UnsupportedOperationException", "java/lang/IndexOutOfBoundsException"), ("java/lang/UnsupportedOperationException", "java/util/NoSuchElementException"), ("java/util/NoSuchElementException", "FilterWaterworks$CommandFailure"), ("java/util/NoSuchElementException", "FilterWaterworks$Failure"), ("java/util/NoSuchElementException", "FilterWaterworks$SyntaxFailure"), ("java/util/NoSuchElementException", "java/lang/ArithmeticException"), ("java/util/NoSuchElementException", "java/lang/IllegalArgumentException"), ("java/util/NoSuchElementException", "java/lang/IllegalStateException"), ("java/util/NoSuchElementException", "java/lang/IndexOutOfBoundsException"), ("java/util/NoSuchElementException", "java/lang/UnsupportedOperationException")]
/-- how many bits are set -/
def pops (n : Nat) : Nat := (List.range 32).foldl (fun k i => k + n / 2 ^ i % 2) 0
abbrev gOld (g : Gh) : Nat → Prop := fun q => gB g ≤ q
/-- what is known of the tables and the statics all through a run, in any state behind the start -/
def gOK (g : Gh) (U : State) : Prop :=
  va_K (gD g) vCl (gTys g) U ∧
  (∀ a i b n d h, Cond.fieldLinkNest a i b n d h ∈ lw_tbl → va_Nw (.fieldLinkNest a i b n d h) U) ∧
  (∀ a i x h, Cond.methodLinkNest a i x h ∈ lw_tbl → va_Nw (.methodLinkNest a i x h) U) ∧
  (∀ a b, Cond.castable a b ∈ lw_tbl → va_Nw (.castable a b) U) ∧
  (∀ x, Cond.declares x ∈ lw_tbl → va_Nw (.declares x) U) ∧
  (∀ x ∈ nwI, va_Fw x.1 x.2.1 x.2.2 U) ∧
  va_AO "java/lang/Object" U ∧
  (∀ own k tx, Cond.stringRef own k tx ∈ lw_tbl → vk_R own k tx (gS g own k) U) ∧
  (∀ x ∈ gSt g, va_Z x.1 x.2.1 x.2.2.1 x.2.2.2 (gOld g) U (gH g)) ∧
  (vx_Zq Bundle.tN "UNASSIGNED_STACK" Bundle.steD (gOld g) U (gH g) ∧ vx_Zq Bundle.tN "SUPPRESSED_SENTINEL" Bundle.listD (gOld g) U (gH g)) ∧
  va_Zq "jdk/internal/util/Preconditions" "SIOOBE_FORMATTER" "Ljava/util/function/BiFunction;" (gOld g) U (gH g) ∧
  va_Mi "[Ljava/lang/Object;" (gA g 9) U ∧ va_Dc U ∧
  (∀ a b, (a, b) ∈ nwX → va_Nc a b U) ∧
  (∀ y, Cond.privateMethod y ∈ lw_tbl → va_Nw (.privateMethod y) U)
theorem nwI_ok : ∀ x ∈ nwI, x.2.1.cls ≠ "java/lang/invoke/MethodHandle" ∧ x.2.1.cls ≠ "java/lang/invoke/VarHandle" := by decide +kernel
theorem gOK.moved {g : Gh} {s U : State} (hW : s.WarmedH U.vm) (h : gOK g s) : gOK g U := by
  obtain ⟨h1, h2, h3, h4, h5, h6, h7, h8, h9, h10, h11, h12, h13, h14, h15⟩ := h
  have hvm := hW.alike
  refine ⟨va_K.moved hvm h1, fun a i b n d h hm => va_Nw.warmF hW (h2 a i b n d h hm), fun a i x h hm => va_Nw.warmM hW (h3 a i x h hm), fun a b hm => va_Nw.warmC hW (h4 a b hm), fun x hm => va_Nw.warmD hW (h5 x hm), fun x hm => va_Fw.moved (nwI_ok x hm) hvm (h6 x hm), va_AO.moved hvm h7, fun own k tx hm => vk_R.warm hW (h8 own k tx hm), fun x hm => va_Z.moved hvm (h9 x hm), ⟨vx_Zq.moved hvm h10.1, vx_Zq.moved hvm h10.2⟩, va_Zq.moved hvm h11, va_Mi.moved hvm h12, va_Dc.moved hvm h13, fun a b hm => va_Nc.moved hvm (h14 a b hm), fun y hm => Cond.privateMethod_warm hW (h15 y hm)⟩
/-- the store of the start: the constants in it -/
def gCs (g : Gh) : Prop :=
  (∀ own k tx, Cond.stringRef own k tx ∈ lw_tbl → IsStrC g (gK g) (gS g own k) (tN tx)) ∧
  gK g (gA g 0) = some (.inl (gT g 6, 0, .inr (.inr (.inr (.inr (fun _ => none)))))) ∧
  gK g (gA g 1) = some (.inl (gT g 1, 100, .inl (fun j => nI (48 + j % 10)))) ∧
  gK g (gA g 2) = some (.inl (gT g 1, 100, .inl (fun j => nI (48 + j / 10)))) ∧
  gK g (gA g 3) = some (.inl (gT g 0, 256, .inl (fun j => nI (pops j)))) ∧
  gK g (gA g 4) = some (.inr (24, [])) ∧ gK g (gA g 5) = some (.inr (25, [])) ∧ gA g 4 ≠ gA g 5 ∧
  (∀ q : Nat, gK g q ≠ none → q < gB g)
def gAll (g : Gh) (U : State) : Prop := gOK g U ∧ gCs g
theorem gAll.moved {g : Gh} {s U : State} (hW : s.WarmedH U.vm) (h : gAll g s) : gAll g U := ⟨gOK.moved hW h.1, h.2⟩
/-- a cell of the start's constants, seen from any store of a run -/
theorem Hp.old {g : Gh} {σ : Sto} {H : Heap} (h : Hp g σ H) (hc : gCs g) {a : Nat} {e : va_E} (he : gK g a = some e) : σ a = some e := by
  have hb : a < gB g := hc.2.2.2.2.2.2.2.2 a (by rw [he]; exact fun q => nomatch q)
  rw [h.2.2.2 a hb]
  exact he
/-! contracts -/
def gF (g : Gh) : Addr → Prop := fun q => gB g ≤ q
def CP (g : Gh) (av : List Value) (σ : Sto) : Array Value → State → Prop := va_Pc av (fun U => gAll g U ∧ Hp g σ U.heap)
def CQ (g : Gh) (post : Option Value → Sto → Prop) : Array Value → State → Outcome → State → Prop := fun _ _ o t => ∃ (r : Option Value) (σ' : Sto), o = .returned r ∧ post r σ' ∧ Hp g σ' t.heap
def CX (g : Gh) (px : Addr → String → Sto → Prop) : Addr → String → State → State → Prop := fun q E _ t => ∃ σ' : Sto, px q E σ' ∧ Hp g σ' t.heap
abbrev nox : Addr → String → Sto → Prop := fun _ _ _ => False
def Ct (g : Gh) (l : Launch) (y : MethodName) (b : ByteArray) (L : Nat) (r : Option FieldType) (rm : Room) (av : List Value) (σ : Sto) (post : Option Value → Sto → Prop) (px : Addr → String → Sto → Prop) : Prop :=
  l.stackTraces = false → vx_Met l y (ws_ y b L r) rm (CP g av σ) (CQ g post) (CX g px) rm.cells rm.slots (gF g)
/-- .. of a method with handlers -/
def CtW (g : Gh) (l : Launch) (y : MethodName) (b : ByteArray) (L : Nat) (r : Option FieldType) (hh : List (Nat × Nat × Nat × Nat)) (rm : Room) (av : List Value) (σ : Sto) (post : Option Value → Sto → Prop) (px : Addr → String → Sto → Prop) : Prop :=
  l.stackTraces = false → vx_Met l y (wsW_ y b L r hh) rm (CP g av σ) (CQ g post) (CX g px) rm.cells rm.slots (gF g)
theorem CP_blind {g : Gh} {av : List Value} {σ : Sto} : FrameBlind (CP g av σ) := fun a U fr mk h => ⟨h.1, gAll.moved (U := U.calling fr mk a) (State.WarmedH.refl U) h.2.1, h.2.2⟩
theorem Ct.imp {g : Gh} {l : Launch} {y : MethodName} {b : ByteArray} {L : Nat} {r : Option FieldType} {rm : Room} {av : List Value} {σ : Sto} {post post' : Option Value → Sto → Prop} {px px' : Addr → String → Sto → Prop} (h : Ct g l y b L r rm av σ post px) (h1 : ∀ v s', post v s' → post' v s') (h2 : ∀ q E s', px q E s' → px' q E s') : Ct g l y b L r rm av σ post' px' := by
  intro hl p e ha hc hk s m args below hf hap hP hK
  obtain ⟨n, o, w1, a2, a3, a4⟩ := h hl p e ha hc hk s m args below hf hap hP hK
  refine ⟨n, o, w1, a2, a3, ?_⟩
  rcases a4 with ⟨⟨v, s', b1, b2, b3⟩, b4⟩ | ⟨q, b1, E, ce, L9, ⟨s', c1, c2⟩, c3⟩
  · exact Or.inl ⟨⟨v, s', b1, h1 _ _ b2, b3⟩, b4⟩
  · exact Or.inr ⟨q, b1, E, ce, L9, ⟨s', h2 _ _ _ c1, c2⟩, c3⟩
/-- what holds in a method's body -/
def Fx (g : Gh) (l : Launch) (p : Program) (s : State) (m : MethodId) (args : Array Value) (meth : Method) (c : Code) (b : ByteArray) (L : Nat) (own nm : String) (r : Option FieldType) (tb : List ExceptionTableEntry) : Prop :=
  CallFix p m c b L s args lw_all own ∧ gAll g s ∧ meth.sig.returnType = r ∧ meth.locks = false ∧ meth.name = nm ∧ c.exceptionTable.toList = tb ∧ l.stackTraces = false
section FX
variable {g : Gh} {l : Launch} {p : Program} {s : State} {m : MethodId} {args : Array Value} {meth : Method} {c : Code} {b : ByteArray} {L : Nat} {own nm : String} {r : Option FieldType} {tb : List ExceptionTableEntry}
theorem Fx.x (F : Fx g l p s m args meth c b L own nm r tb) : p.tables.exec = Jvm.exec := F.1.1
theorem Fx.cd (F : Fx g l p s m args meth c b L own nm r tb) : c.code = b := F.1.2.1
theorem Fx.ow (F : Fx g l p s m args meth c b L own nm r tb) : s.vm.findClass own = some m.cls := F.1.2.2.2.1
theorem Fx.ts (F : Fx g l p s m args meth c b L own nm r tb) : ∀ w ∈ lw_all, w.before args s = true := F.1.2.2.2.2
theorem Fx.ml (F : Fx g l p s m args meth c b L own nm r tb) : c.maxLocals = L := F.1.2.2.1
theorem Fx.ok (F : Fx g l p s m args meth c b L own nm r tb) : gOK g s := F.2.1.1
theorem Fx.cs (F : Fx g l p s m args meth c b L own nm r tb) : gCs g := F.2.1.2
theorem Fx.rt (F : Fx g l p s m args meth c b L own nm r tb) : meth.sig.returnType = r := F.2.2.1
theorem Fx.lk (F : Fx g l p s m args meth c b L own nm r tb) : meth.locks = false := F.2.2.2.1
theorem Fx.mn (F : Fx g l p s m args meth c b L own nm r tb) : meth.name = nm := F.2.2.2.2.1
theorem Fx.et (F : Fx g l p s m args meth c b L own nm r tb) : c.exceptionTable.toList = tb := F.2.2.2.2.2.1
theorem Fx.st (F : Fx g l p s m args meth c b L own nm r tb) : l.stackTraces = false := F.2.2.2.2.2.2
end FX
theorem Ct.body {g : Gh} {l : Launch} {y : MethodName} {b : ByteArray} {L : Nat} {r : Option FieldType} {rm : Room} {av : List Value} {σ : Sto} {post : Option Value → Sto → Prop} {px : Addr → String → Sto → Prop} (hy : plainName y.cls = true) (hL : (lg_sl av).length ≤ L)
    (body : ∀ (p : Program) (e : Env) (s : State) (m : MethodId) (args : Array Value) (below : List Frame) (meth : Method) (c : Code) (ls : Array Slot) (H : Heap) (locs : List Loc) (Q : State → Prop), Fx g l p s m args meth c b L y.cls y.name r [] → Hl g σ H locs → lv_has ls L (lv_args 0 av) → Q = vx_MQ below (CQ g post) (CX g px) args s rm.cells rm.slots (gF g) →
      W p l e rm s m args below meth c H locs 0 0 Q (F0 m 0 ls [])) : Ct g l y b L r rm av σ post px := by
  intro hst
  refine vx_ofW (cc := b) (maxL := L) (ret := r) hy rfl ?_
  intro p e s m args below meth c s₁ B hml htb hv
  obtain ⟨rfl, hA, hH⟩ := hv
  have hts := atoms_spec (ws := ws_ y b L r) B.pre
  have hl := lv_entry av (n := L) hL
  rw [lg_entry_eq]
  refine body p e s m _ below meth c _ _ _ _ ⟨⟨B.exec, B.bytes, hml, findClass_of_methodNamed B.named, fun w h => hts w (List.mem_cons_of_mem _ h)⟩, hA, B.returns, B.notSynchronized, (name_of_methodNamed B.named B.method).1, ?_, hst⟩ ⟨hH, fun _ h => nomatch h⟩ hl rfl
  cases he : c.exceptionTable.toList with
  | nil => rfl
  | cons x xs => exact (htb x (by rw [he]; exact List.mem_cons_self)).elim
theorem CtW.body {g : Gh} {l : Launch} {y : MethodName} {b : ByteArray} {L : Nat} {r : Option FieldType} {hh : List (Nat × Nat × Nat × Nat)} {rm : Room} {av : List Value} {σ : Sto} {post : Option Value → Sto → Prop} {px : Addr → String → Sto → Prop} (hy : plainName y.cls = true) (hL : (lg_sl av).length ≤ L)
    (body : ∀ (p : Program) (e : Env) (s : State) (m : MethodId) (args : Array Value) (below : List Frame) (meth : Method) (c : Code) (ls : Array Slot) (H : Heap) (locs : List Loc) (Q : State → Prop), Fx g l p s m args meth c b L y.cls y.name r (tableOf hh) → Hl g σ H locs → lv_has ls L (lv_args 0 av) → Q = vx_MQ below (CQ g post) (CX g px) args s rm.cells rm.slots (gF g) →
      W p l e rm s m args below meth c H locs 0 0 Q (F0 m 0 ls [])) : CtW g l y b L r hh rm av σ post px := by
  intro hst
  refine vx_ofWH (cc := b) (maxL := L) (ret := r) (hh := hh) hy rfl ?_
  intro p e s m args below meth c s₁ B hml hv
  obtain ⟨rfl, hA, hH⟩ := hv
  have hts := atoms_spec (ws := wsW_ y b L r hh) B.pre
  have hl := lv_entry av (n := L) hL
  rw [lg_entry_eq]
  exact body p e s m _ below meth c _ _ _ _ ⟨⟨B.exec, B.bytes, hml, findClass_of_methodNamed B.named, fun w h => hts w (List.mem_cons_of_mem _ h)⟩, hA, B.returns, B.notSynchronized, (name_of_methodNamed B.named B.method).1, vx_table (x := y) B (hts _ List.mem_cons_self), hst⟩ ⟨hH, fun _ h => nomatch h⟩ hl rfl
/-! rows -/
section SR
variable {g : Gh} {l : Launch} {p : Program} {e : Env} {R : Room} {s : State} {m : MethodId} {args : Array Value} {below : List Frame} {meth : Method} {c : Code} {H : Heap} {locs : List Loc} {cells slots : Nat} {Q : State → Prop}
variable {cc : ByteArray} {nL : Nat} {own nm : String} {ret : Option FieldType} {tb : List ExceptionTableEntry} {pc : Nat} {ls : Array Slot} {rest : List Value} {σ : Sto} {a : Nat}
theorem s_kn (F : Fx g l p s m args meth c cc nL own nm ret tb) {ci : Nat} {C : String} {T : u_T} {N : Nat} (hc : vCl[ci]? = some (C, T, N)) : u_Kn s C T N ((gD g).1 ci) ((gD g).2 ci) := F.ok.1.1 ci _ hc
theorem s_arr (F : Fx g l p s m args meth c cc nL own nm ret tb) {k : Nat} {cA : ClassId} {ty : FieldType} (hk : (gTys g)[k]? = some (cA, ty)) : ArrOfT s cA ty ∧ va_RA s cA ty := F.ok.1.2 k _ hk
theorem s_isArr {cA : ClassId} {ty : FieldType} (h : ArrOfT s cA ty) {cell : Cell} (hc : cell.cls = cA) (hv : cell.vm.isStatics = false) : s.isArrayOf cell ty := by
  obtain ⟨-, kA, h1, comp, h2⟩ := h 0 (fun _ => .null)
  exact ⟨fun k hk => (by rw [hk] at hv; cases hv), kA, by rw [hc]; exact h1, comp, h2⟩
/-- getfield -/
theorem s_get (F : Fx g l p s m args meth c cc nL own nm ret tb) (hW : Hl g σ H locs) {ci : Nat} {fs : List Value} (he : σ a = some (.inr (ci, fs))) {C ref : String} {T : u_T} {N index : Nat} (hc : vCl[ci]? = some (C, T, N)) (hin : ∀ w ∈ u_ws C T N, w ∈ lw_all) (k : Nat) (hk : k < N)
    (hlink : Cond.fieldLink own index ref (T k).2.1 (T k).2.2.1 ∈ lw_all) (hsame : ∀ x, s.fieldFound? (T k).1 (T k).2.1 (T k).2.2.1 = some x → s.fieldFound? ref (T k).2.1 (T k).2.2.1 = some x) {v : Value} (hv : fs[k]? = some v) (hdg : decode cc pc = .ok (.getfield index, 3))
    (kk : W p l e R s m args below meth c H locs cells slots Q (F0 m (pc + 3) ls (v :: rest))) : W p l e R s m args below meth c H locs cells slots Q (F0 m pc ls (.ref a :: rest)) := by
  obtain ⟨cell, q1, q2, q3, -, r, h1, h2, h3⟩ := hW.1.1 a _ he
  have hr : r = (C, T, N) := Option.some.inj (h1.symm.trans hc)
  subst hr
  obtain ⟨hS, hfc, kC, hkC, hkind⟩ := s_kn F hc
  obtain ⟨cf, kf, fi, f, hi, hsl⟩ := hS k hk
  refine W.getf F.x F.cd F.ow (F.ts _ hlink) (hsame _ hi) (u_facts hfc hkC (u_lays F.ts hin hk) hi).1 q1 q3 (v := v) ?_ rfl rfl hdg kk
  rw [hsl, h3 k hk]
  simp [vp_V, hv]
/-- getfield of a nest mate's private field -/
theorem s_getN (F : Fx g l p s m args meth c cc nL own nm ret tb) (hW : Hl g σ H locs) {ci : Nat} {fs : List Value} (he : σ a = some (.inr (ci, fs))) {C ref host : String} {T : u_T} {N index : Nat} (hc : vCl[ci]? = some (C, T, N)) (hin : ∀ w ∈ u_ws C T N, w ∈ lw_all) (k : Nat) (hk : k < N)
    (hlink : Cond.fieldLinkNest own index ref (T k).2.1 (T k).2.2.1 host ∈ lw_tbl) (hsame : ∀ x, s.fieldFound? (T k).1 (T k).2.1 (T k).2.2.1 = some x → s.fieldFound? ref (T k).2.1 (T k).2.2.1 = some x) {v : Value} (hv : fs[k]? = some v) (hdg : decode cc pc = .ok (.getfield index, 3))
    (kk : W p l e R s m args below meth c H locs cells slots Q (F0 m (pc + 3) ls (v :: rest))) : W p l e R s m args below meth c H locs cells slots Q (F0 m pc ls (.ref a :: rest)) := by
  obtain ⟨cell, q1, q2, q3, -, r, h1, h2, h3⟩ := hW.1.1 a _ he
  have hr : r = (C, T, N) := Option.some.inj (h1.symm.trans hc)
  subst hr
  obtain ⟨hS, hfc, kC, hkC, hkind⟩ := s_kn F hc
  obtain ⟨cf, kf, fi, f, hi, hsl⟩ := hS k hk
  refine va_Wgetf F.x F.cd F.ow (va_Nw.use rfl (F.ok.2.1 _ _ _ _ _ _ hlink)) (hsame _ hi) (u_facts hfc hkC (u_lays F.ts hin hk) hi).1 q1 q3 (v := v) ?_ rfl rfl hdg kk
  rw [hsl, h3 k hk]
  simp [vp_V, hv]
theorem s_apart (F : Fx g l p s m args meth c cc nL own nm ret tb) {ci : Nat} {C : String} {T : u_T} {N : Nat} (hc : vCl[ci]? = some (C, T, N)) (hin : ∀ w ∈ u_ws C T N, w ∈ lw_all) (ty : Nat → FieldType) (hty : ∀ k, k < N → parseFieldDescriptor (T k).2.2.1 = some (ty k)) (hnm : ∀ a, a < N → ∀ b, b < N → a ≠ b → (T a).2.1 ≠ (T b).2.1) : ∀ x y, x < N → y < N → x ≠ y → ((gD g).2 ci) x ≠ ((gD g).2 ci) y := by
  intro x y hx hy hne
  obtain ⟨hS, -⟩ := s_kn F hc
  obtain ⟨_, _, _, fa, hia, ea⟩ := hS x hx
  obtain ⟨_, _, _, fb, hib, eb⟩ := hS y hy
  rw [← ea, ← eb]
  refine u_apart (u_lays F.ts hin hx) (u_lays F.ts hin hy) hia hib ?_
  rw [(State.fieldFound?_type hia (hty x hx)).1, (State.fieldFound?_type hib (hty y hy)).1]
  exact hnm x hx y hy hne
theorem s_setAt {H1 : Heap} {ci k N : Nat} {fs : List Value} {cell : Cell} {r : vw_C} {v : Value} (hr : vCl[ci]? = some r) (hN : r.2.2 = N) (q2 : cell.vm.isStatics = false) (q3 : cell.vm ≠ .unknown) (q4 : gB g ≤ a → cell.vm = .none ∧ (exo (.inr (ci, fs)) → cell.monitor.owner = none ∧ cell.monitor.count = 0)) (h2 : cell.cls = (gD g).1 ci) (h3 : ∀ k, k < N → cell.slots[(gD g).2 ci k]? = some (vp_V fs k)) (hap : ∀ x y, x < N → y < N → x ≠ y → ((gD g).2 ci) x ≠ ((gD g).2 ci) y) (hk : k < N) (hl : k < fs.length) (e1 : H1[a]? = some (cell.setSlot ((gD g).2 ci k) v)) : sAt g H1 a (.inr (ci, fs.set k v)) := by
  refine ⟨_, e1, q2, q3, q4, r, hr, h2, fun j hj => ?_⟩
  rw [hN] at hj
  rw [t_set h3 hap hk v j hj, vp_updV_set hl v j]
/-- putfield -/
theorem s_put (F : Fx g l p s m args meth c cc nL own nm ret tb) (hW : Hl g σ H locs) {ci : Nat} {fs : List Value} (he : σ a = some (.inr (ci, fs))) (hb0 : gB g ≤ a) {C ref : String} {T : u_T} {N index : Nat} (hc : vCl[ci]? = some (C, T, N)) (hin : ∀ w ∈ u_ws C T N, w ∈ lw_all) {ty0 : Nat → FieldType} (hty : ∀ k, k < N → parseFieldDescriptor (T k).2.2.1 = some (ty0 k)) (hnm : ∀ a, a < N → ∀ b, b < N → a ≠ b → (T a).2.1 ≠ (T b).2.1) (k : Nat) (hk : k < N)
    (hlink : Cond.fieldLink own index ref (T k).2.1 (T k).2.2.1 ∈ lw_all) (hsame : ∀ x, s.fieldFound? (T k).1 (T k).2.1 (T k).2.2.1 = some x → s.fieldFound? ref (T k).2.1 (T k).2.2.1 = some x) (hfin : (T k).2.2.2 = false) {ty : FieldType} {v : Value} (hd : parseFieldDescriptor (T k).2.2.1 = some ty) (hn : narrow ty v = v) (hfit : fits ty v = true) (hl : k < fs.length) (hdg : decode cc pc = .ok (.putfield index, 3))
    (kk : ∀ (H1 : Heap) (locs1 : List Loc), Hl g (sset σ a (.inr (ci, fs.set k v))) H1 locs1 → W p l e R s m args below meth c H1 locs1 cells slots Q (F0 m (pc + 3) ls rest)) : W p l e R s m args below meth c H locs cells slots Q (F0 m pc ls (v :: .ref a :: rest)) := by
  have hap := s_apart F hc hin ty0 hty hnm
  obtain ⟨cell, q1, q2, q3, q4, r, h1, h2, h3⟩ := hW.1.1 a _ he
  have hr : r = (C, T, N) := Option.some.inj (h1.symm.trans hc)
  subst hr
  obtain ⟨hS, hfc, kC, hkC, hkind⟩ := s_kn F hc
  obtain ⟨cf, kf, fi, f, hi, hsl⟩ := hS k hk
  have hlay := F.ts _ (hin _ (u_in_lay hk))
  unfold u_lay at hlay
  rw [if_neg (by rw [hfin]; decide)] at hlay
  have hst := (u_facts hfc hkC (u_lays F.ts hin hk) hi).1
  have h6 := u_store hfc hkC hkind hlay hi hd hn hfit
  refine W.putK F.x F.cd (f := f) ⟨F.ow, F.ts _ hlink, ⟨_, _, _, hsame _ hi⟩, hst⟩ (by rw [h2]; exact h6) q1 (q4 hb0).1 (by rw [hsl]; exact k2_hasslot (h3 k hk)) rfl rfl hdg fun H' e1 e2 e3 => ?_
  rw [hsl] at e1 ⊢
  exact kk H' _ (hW.lc hb0 (hW.1.set hb0 e2 e3 (s_setAt h1 rfl q2 q3 q4 h2 h3 hap hk hl e1)))
/-- .. of a nest mate -/
theorem s_putN (F : Fx g l p s m args meth c cc nL own nm ret tb) (hW : Hl g σ H locs) {ci : Nat} {fs : List Value} (he : σ a = some (.inr (ci, fs))) (hb0 : gB g ≤ a) {C ref host : String} {T : u_T} {N index : Nat} (hc : vCl[ci]? = some (C, T, N)) (hin : ∀ w ∈ u_ws C T N, w ∈ lw_all) {ty0 : Nat → FieldType} (hty : ∀ k, k < N → parseFieldDescriptor (T k).2.2.1 = some (ty0 k)) (hnm : ∀ a, a < N → ∀ b, b < N → a ≠ b → (T a).2.1 ≠ (T b).2.1) (k : Nat) (hk : k < N)
    (hlink : Cond.fieldLinkNest own index ref (T k).2.1 (T k).2.2.1 host ∈ lw_tbl) (hsame : ∀ x, s.fieldFound? (T k).1 (T k).2.1 (T k).2.2.1 = some x → s.fieldFound? ref (T k).2.1 (T k).2.2.1 = some x) (hfin : (T k).2.2.2 = false) {ty : FieldType} {v : Value} (hd : parseFieldDescriptor (T k).2.2.1 = some ty) (hn : narrow ty v = v) (hfit : fits ty v = true) (hl : k < fs.length) (hdg : decode cc pc = .ok (.putfield index, 3))
    (kk : ∀ (H1 : Heap) (locs1 : List Loc), Hl g (sset σ a (.inr (ci, fs.set k v))) H1 locs1 → W p l e R s m args below meth c H1 locs1 cells slots Q (F0 m (pc + 3) ls rest)) : W p l e R s m args below meth c H locs cells slots Q (F0 m pc ls (v :: .ref a :: rest)) := by
  have hap := s_apart F hc hin ty0 hty hnm
  obtain ⟨cell, q1, q2, q3, q4, r, h1, h2, h3⟩ := hW.1.1 a _ he
  have hr : r = (C, T, N) := Option.some.inj (h1.symm.trans hc)
  subst hr
  obtain ⟨hS, hfc, kC, hkC, hkind⟩ := s_kn F hc
  obtain ⟨cf, kf, fi, f, hi, hsl⟩ := hS k hk
  have hlay := F.ts _ (hin _ (u_in_lay hk))
  unfold u_lay at hlay
  rw [if_neg (by rw [hfin]; decide)] at hlay
  have hst := (u_facts hfc hkC (u_lays F.ts hin hk) hi).1
  have h6 := u_store hfc hkC hkind hlay hi hd hn hfit
  refine va_WputK F.x F.cd (f := f) F.ow (va_Nw.use rfl (F.ok.2.1 _ _ _ _ _ _ hlink)) (hsame _ hi) hst (by rw [h2]; exact h6) q1 (q4 hb0).1 (by rw [hsl]; exact k2_hasslot (h3 k hk)) rfl rfl hdg fun H' e1 e2 e3 => ?_
  rw [hsl] at e1 ⊢
  exact kk H' _ (hW.lc hb0 (hW.1.set hb0 e2 e3 (s_setAt h1 rfl q2 q3 q4 h2 h3 hap hk hl e1)))
/-- putfield of a final field in its constructor -/
theorem s_putF (F : Fx g l p s m args meth c cc nL own "<init>" ret tb) (hW : Hl g σ H locs) {ci : Nat} {fs : List Value} (he : σ a = some (.inr (ci, fs))) (hb0 : gB g ≤ a) {C ref : String} {T : u_T} {N index : Nat} (hc : vCl[ci]? = some (C, T, N)) (hin : ∀ w ∈ u_ws C T N, w ∈ lw_all) {ty0 : Nat → FieldType} (hty : ∀ k, k < N → parseFieldDescriptor (T k).2.2.1 = some (ty0 k)) (hnm : ∀ a, a < N → ∀ b, b < N → a ≠ b → (T a).2.1 ≠ (T b).2.1) (k : Nat) (hk : k < N)
    (hlink : Cond.fieldLink own index ref (T k).2.1 (T k).2.2.1 ∈ lw_all) (hsame : ∀ x, s.fieldFound? (T k).1 (T k).2.1 (T k).2.2.1 = some x → s.fieldFound? ref (T k).2.1 (T k).2.2.1 = some x) (hfin : (T k).2.2.2 = true) (hdecl : (T k).1 = own) {ty : FieldType} {v : Value} (hd : parseFieldDescriptor (T k).2.2.1 = some ty) (hn : narrow ty v = v) (hfit : fits ty v = true) (hl : k < fs.length) (hdg : decode cc pc = .ok (.putfield index, 3))
    (kk : ∀ (H1 : Heap) (locs1 : List Loc), Hl g (sset σ a (.inr (ci, fs.set k v))) H1 locs1 → W p l e R s m args below meth c H1 locs1 cells slots Q (F0 m (pc + 3) ls rest)) : W p l e R s m args below meth c H locs cells slots Q (F0 m pc ls (v :: .ref a :: rest)) := by
  have hap := s_apart F hc hin ty0 hty hnm
  obtain ⟨cell, q1, q2, q3, q4, r, h1, h2, h3⟩ := hW.1.1 a _ he
  have hr : r = (C, T, N) := Option.some.inj (h1.symm.trans hc)
  subst hr
  obtain ⟨hS, hfc, kC, hkC, hkind⟩ := s_kn F hc
  obtain ⟨cf, kf, fi, f, hi, hsl⟩ := hS k hk
  have hlay := F.ts _ (hin _ (u_in_lay hk))
  unfold u_lay at hlay
  rw [if_pos hfin] at hlay
  have hst := (u_facts hfc hkC (u_lays F.ts hin hk) hi).1
  have hcf : m.cls = cf := by
    obtain ⟨_, _, c', _, _, _, -, -, hf', -, -, -, hown2, -⟩ := Cond.laysFinal_spec hlay
    have e1 : c' = cf := by have := hi.symm.trans hf'; simp at this; exact this.1.symm
    rw [hdecl] at hown2
    rw [← e1]; exact Option.some.inj (F.ow.symm.trans hown2)
  have h6 := u_fits hfc hkC hkind (Or.inr hlay) hi hd hn hfit
  refine W.putFinK F.x F.cd F.ow (F.ts _ hlink) (hsame _ hi) hst hcf F.mn (by rw [h2]; exact h6) q1 (q4 hb0).1 (by rw [hsl]; exact k2_hasslot (h3 k hk)) rfl rfl hdg fun H' e1 e2 e3 => ?_
  rw [hsl] at e1 ⊢
  exact kk H' _ (hW.lc hb0 (hW.1.set hb0 e2 e3 (s_setAt h1 rfl q2 q3 q4 h2 h3 hap hk hl e1)))
/-- new -/
theorem s_new (F : Fx g l p s m args meth c cc nL own nm ret tb) (hW : Hl g σ H locs) (ci : Nat) {C : String} {T : u_T} {N index : Nat} (hc : vCl[ci]? = some (C, T, N)) (hin : ∀ w ∈ u_ws C T N, w ∈ lw_all) {ty : Nat → FieldType} (hty : ∀ k, k < N → parseFieldDescriptor (T k).2.2.1 = some (ty k)) (hcl : Cond.classLink own index C ∈ lw_all) (hinst : Cond.instantiable C N ∈ lw_all) (hini : Cond.initialized C ∈ lw_all)
    {fs : List Value} (hfs : ∀ j, j < N → defaultValue (ty j) = vp_V fs j) (hcells : cells + 1 ≤ R.cells) (hslots : slots + N ≤ R.slots) (hdg : decode cc pc = .ok (.new index, 3))
    (kk : ∀ (q : Nat) (H1 : Heap), gB g ≤ q → σ q = none → Hl g (sset σ q (.inr (ci, fs))) H1 locs → W p l e R s m args below meth c H1 locs (cells + 1) (slots + N) Q (F0 m (pc + 3) ls (.ref q :: rest))) : W p l e R s m args below meth c H locs cells slots Q (F0 m pc ls rest) := by
  have hKn := s_kn F hc
  refine W.newcK F.x F.cd F.ow (F.ts _ hcl) (F.ts _ hinst) (F.ts _ hini) rfl hdg hcells hslots hKn.2.1 rfl fun H1 kC hkC e1 z1 o1 => ?_
  refine kk H.size H1 hW.1.2.1 (hW.1.fresh (Nat.le_refl _)) ⟨hW.1.push rfl (by rw [z1]; exact Nat.le_succ _) o1 ?_, hW.2⟩
  obtain ⟨cell, b1, b2, b3, b4⟩ := (u_born ty F.ts hin hKn hkC e1 hty).to hfs
  exact ⟨cell, b1, by rw [b3]; rfl, (by rw [b3]; exact fun h => nomatch h), fun _ => ⟨b3, fun _ => by rw [Option.some.inj (b1.symm.trans e1)]; exact ⟨rfl, rfl⟩⟩, _, hc, b2, b4⟩
/-! arrays -/
abbrev eI (g : Gh) (k n : Nat) (f : Nat → Int32) : va_E := .inl (gT g k, n, .inl f)
abbrev eL (g : Gh) (n : Nat) (f : Nat → Int64) : va_E := .inl (gT g 4, n, .inr (.inl f))
abbrev eD (g : Gh) (n : Nat) (f : Nat → UInt64) : va_E := .inl (gT g 5, n, .inr (.inr (.inr (.inl f))))
abbrev eR (g : Gh) (n : Nat) (f : Nat → Option Nat) : va_E := .inl (gT g 6, n, .inr (.inr (.inr (.inr f))))
theorem s_slots {cA : ClassId} {x : vp_A} {cell : Cell} (h : cell.slots = (vp_cell cA x).slots) : cell.slots.size = x.1 := by
  rw [h]
  obtain ⟨n, f | f | f | f | f⟩ := x
  · rw [vp_cell_i, arrV_size]
  · rw [vp_cell_l, arrV_size]
  · rw [vp_cell_f, arrV_size]
  · rw [vp_cell_d, arrV_size]
  · rw [vp_cell_q, arrV_size]
/-- a load of an int, byte, boolean, char -/
theorem s_ald (F : Fx g l p s m args meth c cc nL own nm ret tb) (hW : Hl g σ H locs) {n : Nat} {f : Nat → Int32} (he : σ a = some (eI g 0 n f)) {i : Int32} (hin : vp_in i n) (hdg : decode cc pc = .ok (.iaload, 1))
    (kk : W p l e R s m args below meth c H locs cells slots Q (F0 m (pc + 1) ls (.int (f i.toNatClampNeg) :: rest))) : W p l e R s m args below meth c H locs cells slots Q (F0 m pc ls (.int i :: .ref a :: rest)) := by
  have hlt : i.toNatClampNeg < n := Nat.not_le.mp fun q => hin (Or.inr q)
  obtain ⟨cell, q1, q2, q3, -, h2, h3, -⟩ := hW.1.1 a _ he
  exact W.iald (v := .int (f i.toNatClampNeg)) F.x F.cd q1 (s_isArr (s_arr F (k := 0) rfl).1 h2 q2) q3 (by rw [s_slots h3]; exact hin) (by rw [h3, vp_cell_i, arrV_read _ _ hlt]) rfl rfl hdg kk
theorem s_bald (F : Fx g l p s m args meth c cc nL own nm ret tb) (hW : Hl g σ H locs) {n : Nat} {f : Nat → Int32} (he : σ a = some (eI g 1 n f)) {i : Int32} (hin : vp_in i n) (hdg : decode cc pc = .ok (.baload, 1))
    (kk : W p l e R s m args below meth c H locs cells slots Q (F0 m (pc + 1) ls (.int (f i.toNatClampNeg) :: rest))) : W p l e R s m args below meth c H locs cells slots Q (F0 m pc ls (.int i :: .ref a :: rest)) := by
  have hlt : i.toNatClampNeg < n := Nat.not_le.mp fun q => hin (Or.inr q)
  obtain ⟨cell, q1, q2, q3, -, h2, h3, -⟩ := hW.1.1 a _ he
  exact W.bald (v := .int (f i.toNatClampNeg)) F.x F.cd q1 (s_isArr (s_arr F (k := 1) rfl).1 h2 q2) q3 (by rw [s_slots h3]; exact hin) (by rw [h3, vp_cell_i, arrV_read _ _ hlt]) rfl rfl hdg kk
theorem s_zald (F : Fx g l p s m args meth c cc nL own nm ret tb) (hW : Hl g σ H locs) {n : Nat} {f : Nat → Int32} (he : σ a = some (eI g 2 n f)) {i : Int32} (hin : vp_in i n) (hdg : decode cc pc = .ok (.baload, 1))
    (kk : W p l e R s m args below meth c H locs cells slots Q (F0 m (pc + 1) ls (.int (f i.toNatClampNeg) :: rest))) : W p l e R s m args below meth c H locs cells slots Q (F0 m pc ls (.int i :: .ref a :: rest)) := by
  have hlt : i.toNatClampNeg < n := Nat.not_le.mp fun q => hin (Or.inr q)
  obtain ⟨cell, q1, q2, q3, -, h2, h3, -⟩ := hW.1.1 a _ he
  exact W.zald (v := .int (f i.toNatClampNeg)) F.x F.cd q1 (s_isArr (s_arr F (k := 2) rfl).1 h2 q2) q3 (by rw [s_slots h3]; exact hin) (by rw [h3, vp_cell_i, arrV_read _ _ hlt]) rfl rfl hdg kk
theorem s_cald (F : Fx g l p s m args meth c cc nL own nm ret tb) (hW : Hl g σ H locs) {n : Nat} {f : Nat → Int32} (he : σ a = some (eI g 3 n f)) {i : Int32} (hin : vp_in i n) (hdg : decode cc pc = .ok (.caload, 1))
    (kk : W p l e R s m args below meth c H locs cells slots Q (F0 m (pc + 1) ls (.int (f i.toNatClampNeg) :: rest))) : W p l e R s m args below meth c H locs cells slots Q (F0 m pc ls (.int i :: .ref a :: rest)) := by
  have hlt : i.toNatClampNeg < n := Nat.not_le.mp fun q => hin (Or.inr q)
  obtain ⟨cell, q1, q2, q3, -, h2, h3, -⟩ := hW.1.1 a _ he
  exact W.cald (v := .int (f i.toNatClampNeg)) F.x F.cd q1 (s_isArr (s_arr F (k := 3) rfl).1 h2 q2) q3 (by rw [s_slots h3]; exact hin) (by rw [h3, vp_cell_i, arrV_read _ _ hlt]) rfl rfl hdg kk
theorem s_lald (F : Fx g l p s m args meth c cc nL own nm ret tb) (hW : Hl g σ H locs) {n : Nat} {f : Nat → Int64} (he : σ a = some (eL g n f)) {i : Int32} (hin : vp_in i n) (hdg : decode cc pc = .ok (.laload, 1))
    (kk : W p l e R s m args below meth c H locs cells slots Q (F0 m (pc + 1) ls (.long (f i.toNatClampNeg) :: rest))) : W p l e R s m args below meth c H locs cells slots Q (F0 m pc ls (.int i :: .ref a :: rest)) := by
  have hlt : i.toNatClampNeg < n := Nat.not_le.mp fun q => hin (Or.inr q)
  obtain ⟨cell, q1, q2, q3, -, h2, h3, -⟩ := hW.1.1 a _ he
  exact W.lald (v := .long (f i.toNatClampNeg)) F.x F.cd q1 (s_isArr (s_arr F (k := 4) rfl).1 h2 q2) q3 (by rw [s_slots h3]; exact hin) (by rw [h3, vp_cell_l, arrV_read _ _ hlt]) rfl rfl hdg kk
theorem s_dald (F : Fx g l p s m args meth c cc nL own nm ret tb) (hW : Hl g σ H locs) {n : Nat} {f : Nat → UInt64} (he : σ a = some (eD g n f)) {i : Int32} (hin : vp_in i n) (hdg : decode cc pc = .ok (.daload, 1))
    (kk : W p l e R s m args below meth c H locs cells slots Q (F0 m (pc + 1) ls (.double (f i.toNatClampNeg) :: rest))) : W p l e R s m args below meth c H locs cells slots Q (F0 m pc ls (.int i :: .ref a :: rest)) := by
  have hlt : i.toNatClampNeg < n := Nat.not_le.mp fun q => hin (Or.inr q)
  obtain ⟨cell, q1, q2, q3, -, h2, h3, -⟩ := hW.1.1 a _ he
  exact W.dald (v := .double (f i.toNatClampNeg)) F.x F.cd q1 (s_isArr (s_arr F (k := 5) rfl).1 h2 q2) q3 (by rw [s_slots h3]; exact hin) (by rw [h3, vp_cell_d, arrV_read _ _ hlt]) rfl rfl hdg kk
theorem s_aald (F : Fx g l p s m args meth c cc nL own nm ret tb) (hW : Hl g σ H locs) {n : Nat} {f : Nat → Option Nat} (he : σ a = some (eR g n f)) {i : Int32} (hin : vp_in i n) (hdg : decode cc pc = .ok (.aaload, 1))
    (kk : W p l e R s m args below meth c H locs cells slots Q (F0 m (pc + 1) ls (va_rf (f i.toNatClampNeg) :: rest))) : W p l e R s m args below meth c H locs cells slots Q (F0 m pc ls (.int i :: .ref a :: rest)) := by
  have hlt : i.toNatClampNeg < n := Nat.not_le.mp fun q => hin (Or.inr q)
  obtain ⟨cell, q1, q2, q3, -, h2, h3, -⟩ := hW.1.1 a _ he
  exact W.aald (v := va_rf (f i.toNatClampNeg)) (ty := .object "java/lang/Object") F.x F.cd q1 (s_isArr (s_arr F (k := 6) rfl).1 h2 q2) rfl q3 (by rw [s_slots h3]; exact hin) (by rw [h3, vp_cell_q, arrV_read _ _ hlt]) rfl rfl hdg kk
theorem s_alen (F : Fx g l p s m args meth c cc nL own nm ret tb) (hW : Hl g σ H locs) {cA : ClassId} {x : vp_A} (he : σ a = some (.inl (cA, x))) (k : Nat) {ty : FieldType} (hk : (gTys g)[k]? = some (cA, ty)) {v : Int32} (hv : nI x.1 = v) (hdg : decode cc pc = .ok (.arraylength, 1))
    (kk : W p l e R s m args below meth c H locs cells slots Q (F0 m (pc + 1) ls (.int v :: rest))) : W p l e R s m args below meth c H locs cells slots Q (F0 m pc ls (.ref a :: rest)) := by
  obtain ⟨cell, q1, q2, q3, -, h2, h3, -⟩ := hW.1.1 a _ he
  exact W.alen (n := v) F.x F.cd q1 (s_isArr (s_arr F hk).1 h2 q2) (by rw [s_slots h3]; exact hv) rfl rfl hdg kk
theorem s_astAt {H1 : Heap} {cA : ClassId} {n : Nat} {fv fv' : Nat → Value} {x' : vp_A} {cell : Cell} {j : Nat} {v : Value} (hx : vp_cell cA x' = arrV cA n fv') (hb : gB g ≤ a) (hcell : cell = arrV cA n fv) (e1 : H1[a]? = some (cell.setSlot j v)) (hf : ∀ k, fv' k = updV fv j v k) : sAt g H1 a (.inl (cA, x')) := by
  have h2 : cell.setSlot j v = vp_cell cA x' := by
    rw [hcell, arrV_store, hx]
    congr 1
    funext k
    exact (hf k).symm
  refine ⟨_, e1, ?_, ?_, fun _ => ?_, ?_, ?_, fun _ => h2⟩
  · rw [h2, hx]; rfl
  · rw [h2, hx]; exact fun h => nomatch h
  · exact ⟨by rw [h2, hx]; rfl, fun h => h.elim⟩
  · rw [h2, hx]; rfl
  · rw [h2]
theorem s_ast (F : Fx g l p s m args meth c cc nL own nm ret tb) (hW : Hl g σ H locs) {n : Nat} {f : Nat → Int32} (he : σ a = some (eI g 0 n f)) (hb0 : gB g ≤ a) {i x : Int32} (hin : vp_in i n) (hdg : decode cc pc = .ok (.iastore, 1))
    (kk : ∀ (H1 : Heap) (locs1 : List Loc), Hl g (sset σ a (eI g 0 n (upd f i.toNatClampNeg x))) H1 locs1 → W p l e R s m args below meth c H1 locs1 cells slots Q (F0 m (pc + 1) ls rest)) : W p l e R s m args below meth c H locs cells slots Q (F0 m pc ls (.int x :: .int i :: .ref a :: rest)) := by
  obtain ⟨cell, q1, q2, q3, -, h2, h3, h4⟩ := hW.1.1 a _ he
  refine W.iast F.x F.cd q1 (s_isArr (s_arr F (k := 0) rfl).1 h2 q2) q3 (by rw [s_slots h3]; exact hin) rfl rfl hdg fun H1 e1 z oq => ?_
  refine kk H1 _ (hW.lc hb0 (hW.1.set hb0 z oq (s_astAt (vp_cell_i _ _ _) hb0 ((h4 hb0).trans (vp_cell_i _ _ _)) e1 fun k => ?_)))
  by_cases hk : k = i.toNatClampNeg <;> simp [updV, upd, hk]
theorem s_bast (F : Fx g l p s m args meth c cc nL own nm ret tb) (hW : Hl g σ H locs) {n : Nat} {f : Nat → Int32} (he : σ a = some (eI g 1 n f)) (hb0 : gB g ≤ a) {i x y : Int32} (hin : vp_in i n) (hy : narrow .byte (.int x) = .int y) (hdg : decode cc pc = .ok (.bastore, 1))
    (kk : ∀ (H1 : Heap) (locs1 : List Loc), Hl g (sset σ a (eI g 1 n (upd f i.toNatClampNeg y))) H1 locs1 → W p l e R s m args below meth c H1 locs1 cells slots Q (F0 m (pc + 1) ls rest)) : W p l e R s m args below meth c H locs cells slots Q (F0 m pc ls (.int x :: .int i :: .ref a :: rest)) := by
  obtain ⟨cell, q1, q2, q3, -, h2, h3, h4⟩ := hW.1.1 a _ he
  refine W.bast F.x F.cd q1 (s_isArr (s_arr F (k := 1) rfl).1 h2 q2) q3 (by rw [s_slots h3]; exact hin) rfl rfl hdg fun H1 e1 z oq => ?_
  rw [hy] at e1
  refine kk H1 _ (hW.lc hb0 (hW.1.set hb0 z oq (s_astAt (vp_cell_i _ _ _) hb0 ((h4 hb0).trans (vp_cell_i _ _ _)) e1 fun k => ?_)))
  by_cases hk : k = i.toNatClampNeg <;> simp [updV, upd, hk]
theorem s_zast (F : Fx g l p s m args meth c cc nL own nm ret tb) (hW : Hl g σ H locs) {n : Nat} {f : Nat → Int32} (he : σ a = some (eI g 2 n f)) (hb0 : gB g ≤ a) {i x y : Int32} (hin : vp_in i n) (hy : narrow .boolean (.int x) = .int y) (hdg : decode cc pc = .ok (.bastore, 1))
    (kk : ∀ (H1 : Heap) (locs1 : List Loc), Hl g (sset σ a (eI g 2 n (upd f i.toNatClampNeg y))) H1 locs1 → W p l e R s m args below meth c H1 locs1 cells slots Q (F0 m (pc + 1) ls rest)) : W p l e R s m args below meth c H locs cells slots Q (F0 m pc ls (.int x :: .int i :: .ref a :: rest)) := by
  obtain ⟨cell, q1, q2, q3, -, h2, h3, h4⟩ := hW.1.1 a _ he
  refine W.zast F.x F.cd q1 (s_isArr (s_arr F (k := 2) rfl).1 h2 q2) q3 (by rw [s_slots h3]; exact hin) rfl rfl hdg fun H1 e1 z oq => ?_
  rw [hy] at e1
  refine kk H1 _ (hW.lc hb0 (hW.1.set hb0 z oq (s_astAt (vp_cell_i _ _ _) hb0 ((h4 hb0).trans (vp_cell_i _ _ _)) e1 fun k => ?_)))
  by_cases hk : k = i.toNatClampNeg <;> simp [updV, upd, hk]
theorem s_cast (F : Fx g l p s m args meth c cc nL own nm ret tb) (hW : Hl g σ H locs) {n : Nat} {f : Nat → Int32} (he : σ a = some (eI g 3 n f)) (hb0 : gB g ≤ a) {i x y : Int32} (hin : vp_in i n) (hy : narrow .char (.int x) = .int y) (hdg : decode cc pc = .ok (.castore, 1))
    (kk : ∀ (H1 : Heap) (locs1 : List Loc), Hl g (sset σ a (eI g 3 n (upd f i.toNatClampNeg y))) H1 locs1 → W p l e R s m args below meth c H1 locs1 cells slots Q (F0 m (pc + 1) ls rest)) : W p l e R s m args below meth c H locs cells slots Q (F0 m pc ls (.int x :: .int i :: .ref a :: rest)) := by
  obtain ⟨cell, q1, q2, q3, -, h2, h3, h4⟩ := hW.1.1 a _ he
  refine W.cast F.x F.cd q1 (s_isArr (s_arr F (k := 3) rfl).1 h2 q2) q3 (by rw [s_slots h3]; exact hin) rfl rfl hdg fun H1 e1 z oq => ?_
  rw [hy] at e1
  refine kk H1 _ (hW.lc hb0 (hW.1.set hb0 z oq (s_astAt (vp_cell_i _ _ _) hb0 ((h4 hb0).trans (vp_cell_i _ _ _)) e1 fun k => ?_)))
  by_cases hk : k = i.toNatClampNeg <;> simp [updV, upd, hk]
theorem s_last (F : Fx g l p s m args meth c cc nL own nm ret tb) (hW : Hl g σ H locs) {n : Nat} {f : Nat → Int64} (he : σ a = some (eL g n f)) (hb0 : gB g ≤ a) {i : Int32} {x : Int64} (hin : vp_in i n) (hdg : decode cc pc = .ok (.lastore, 1))
    (kk : ∀ (H1 : Heap) (locs1 : List Loc), Hl g (sset σ a (eL g n (va_up f i.toNatClampNeg x))) H1 locs1 → W p l e R s m args below meth c H1 locs1 cells slots Q (F0 m (pc + 1) ls rest)) : W p l e R s m args below meth c H locs cells slots Q (F0 m pc ls (.long x :: .int i :: .ref a :: rest)) := by
  obtain ⟨cell, q1, q2, q3, -, h2, h3, h4⟩ := hW.1.1 a _ he
  refine W.last F.x F.cd q1 (s_isArr (s_arr F (k := 4) rfl).1 h2 q2) q3 (by rw [s_slots h3]; exact hin) rfl rfl hdg fun H1 e1 z oq => ?_
  refine kk H1 _ (hW.lc hb0 (hW.1.set hb0 z oq (s_astAt (vp_cell_l _ _ _) hb0 ((h4 hb0).trans (vp_cell_l _ _ _)) e1 fun k => ?_)))
  by_cases hk : k = i.toNatClampNeg <;> simp [updV, va_up, hk]
theorem s_dast (F : Fx g l p s m args meth c cc nL own nm ret tb) (hW : Hl g σ H locs) {n : Nat} {f : Nat → UInt64} (he : σ a = some (eD g n f)) (hb0 : gB g ≤ a) {i : Int32} {x : UInt64} (hin : vp_in i n) (hdg : decode cc pc = .ok (.dastore, 1))
    (kk : ∀ (H1 : Heap) (locs1 : List Loc), Hl g (sset σ a (eD g n (va_up f i.toNatClampNeg x))) H1 locs1 → W p l e R s m args below meth c H1 locs1 cells slots Q (F0 m (pc + 1) ls rest)) : W p l e R s m args below meth c H locs cells slots Q (F0 m pc ls (.double x :: .int i :: .ref a :: rest)) := by
  obtain ⟨cell, q1, q2, q3, -, h2, h3, h4⟩ := hW.1.1 a _ he
  refine W.dast F.x F.cd q1 (s_isArr (s_arr F (k := 5) rfl).1 h2 q2) q3 (by rw [s_slots h3]; exact hin) rfl rfl hdg fun H1 e1 z oq => ?_
  refine kk H1 _ (hW.lc hb0 (hW.1.set hb0 z oq (s_astAt (vp_cell_d _ _ _) hb0 ((h4 hb0).trans (vp_cell_d _ _ _)) e1 fun k => ?_)))
  by_cases hk : k = i.toNatClampNeg <;> simp [updV, va_up, hk]
/-- a reference of any class of ours into an Object[] -/
theorem s_aast (F : Fx g l p s m args meth c cc nL own nm ret tb) (hW : Hl g σ H locs) {n : Nat} {f : Nat → Option Nat} (he : σ a = some (eR g n f)) (hb0 : gB g ≤ a) {v ci : Nat} {vs : List Value} (hv : σ v = some (.inr (ci, vs))) {r : vw_C} (hc : vCl[ci]? = some r) (hca : Cond.castable r.1 "java/lang/Object" ∈ lw_tbl) {i : Int32} (hin : vp_in i n) (hdg : decode cc pc = .ok (.aastore, 1))
    (kk : ∀ (H1 : Heap) (locs1 : List Loc), Hl g (sset σ a (eR g n (va_up f i.toNatClampNeg (some v)))) H1 locs1 → W p l e R s m args below meth c H1 locs1 cells slots Q (F0 m (pc + 1) ls rest)) : W p l e R s m args below meth c H locs cells slots Q (F0 m pc ls (.ref v :: .int i :: .ref a :: rest)) := by
  have hlt : i.toNatClampNeg < n := Nat.not_le.mp fun q => hin (Or.inr q)
  have h0 : ¬ i < 0 := fun q => hin (Or.inl q)
  obtain ⟨cell, q1, q2, q3, -, h2, h3, h4⟩ := hW.1.1 a _ he
  obtain ⟨cellV, g1, g2, g3, -, r', hr', g4, -⟩ := hW.1.1 v _ hv
  obtain ⟨-, hfc, kC, hkC, -⟩ := s_kn F (C := r.1) (T := r.2.1) (N := r.2.2) hc
  obtain ⟨kA, comp, k1, k2, k3, -⟩ := (s_arr F (k := 6) rfl).2
  obtain ⟨c3, c4, hc3, hc4, hasg⟩ := Cond.castable_spec (args := args) (va_Nw.use rfl (F.ok.2.2.2.1 _ _ hca))
  cases Option.some.inj (hc3.symm.trans hfc)
  cases Option.some.inj (hc4.symm.trans k3)
  obtain ⟨kO, hkO, -⟩ := Vm.findClass_spec k3
  refine W.aast F.x F.cd q1 (fun q h => by rw [h] at q2; cases q2) q3 (by rw [h2]; exact k1) k2 rfl hkO ⟨h0, by rw [s_slots h3]; exact hlt⟩ g1 (fun q h => by rw [h] at g2; cases g2) (by rw [g4]; exact hkC) (by rw [g4]; exact hasg) rfl rfl hdg fun H1 e1 z oq => ?_
  refine kk H1 _ (hW.lc hb0 (hW.1.set hb0 z oq (s_astAt (vp_cell_q _ _ _) hb0 ((h4 hb0).trans (vp_cell_q _ _ _)) e1 fun k => ?_)))
  by_cases hk : k = i.toNatClampNeg <;> simp [updV, va_up, va_rf, hk]
theorem s_newAt {H1 : Heap} {cA : ClassId} {n : Nat} {fv : Nat → Value} {x : vp_A} {q : Nat} (hx : vp_cell cA x = arrV cA n fv) (e1 : H1[q]? = some (arrV cA n fv)) : sAt g H1 q (.inl (cA, x)) :=
  ⟨_, e1, rfl, (fun h => nomatch h), fun _ => ⟨rfl, fun h => h.elim⟩, rfl, by rw [hx], fun _ => hx.symm⟩
/-- newarray; x: what it holds at first -/
theorem s_newa (F : Fx g l p s m args meth c cc nL own nm ret tb) (hW : Hl g σ H locs) (k : Nat) {atype : ArrayType} {ty : FieldType} (hty : newarray.typeOf atype = ty) (hnm : FieldType.isReference ty = false) {cA : ClassId} (hk : (gTys g)[k]? = some (cA, ty)) (harr : Cond.arrayClass (newarray.typeOf atype) ∈ lw_all) {n : Int32} {N : Nat} (x : vp_A) (hx : vp_cell cA x = arrV cA N (fun _ => defaultValue ty)) (hn : ¬ n < 0) (hN : n.toNatClampNeg = N) (hbytes : N * componentBytes ty ≤ 536870912) (hcells : cells + 1 ≤ R.cells) (hslots : slots + N ≤ R.slots) (hdg : decode cc pc = .ok (.newarray atype, 2))
    (kk : ∀ (q : Nat) (H1 : Heap), gB g ≤ q → σ q = none → Hl g (sset σ q (.inl (cA, x))) H1 locs → W p l e R s m args below meth c H1 locs (cells + 1) (slots + N) Q (F0 m (pc + 2) ls (.ref q :: rest))) : W p l e R s m args below meth c H locs cells slots Q (F0 m pc ls (.int n :: rest)) := by
  subst hty
  refine va_newaK F.x F.cd (F.ts _ harr) rfl hdg rfl hn hN hbytes hcells hslots rfl fun H1 cB e1 z1 o1 hAr hNm => ?_
  have hRA := (s_arr F hk).2
  have hAB : cB = cA := by
    have h1 : s.vm.findClass ("[" ++ (newarray.typeOf atype).toString) = some cA := by
      cases atype <;> exact hRA
    exact Option.some.inj (hNm.symm.trans h1)
  subst hAB
  exact kk H.size H1 hW.1.2.1 (hW.1.fresh (Nat.le_refl _)) ⟨hW.1.push rfl (by rw [z1]; exact Nat.le_succ _) o1 (s_newAt hx e1), hW.2⟩
theorem s_newq (F : Fx g l p s m args meth c cc nL own nm ret tb) (hW : Hl g σ H locs) {index : Nat} (hclink : Cond.classLink own index "java/lang/Object" ∈ lw_all) {n : Int32} {N : Nat} (hn : ¬ n < 0) (hN : n.toNatClampNeg = N) (hbytes : N * 4 ≤ 536870912) (hcells : cells + 1 ≤ R.cells) (hslots : slots + N ≤ R.slots) (hdg : decode cc pc = .ok (.anewarray index, 3))
    (kk : ∀ (q : Nat) (H1 : Heap), gB g ≤ q → σ q = none → Hl g (sset σ q (eR g N (fun _ => none))) H1 locs → W p l e R s m args below meth c H1 locs (cells + 1) (slots + N) Q (F0 m (pc + 3) ls (.ref q :: rest))) : W p l e R s m args below meth c H locs cells slots Q (F0 m pc ls (.int n :: rest)) := by
  subst hN
  refine W.anew F.x F.cd F.ow (F.ts _ hclink) (va_AO.use F.ok.2.2.2.2.2.2.1) rfl hdg rfl hn hbytes hcells hslots fun cA kA comp f1 f2 f3 f4 => ?_
  obtain ⟨kB, comp2, k1, k2, k3, k4⟩ := (s_arr F (k := 6) rfl).2
  cases Option.some.inj (f1.symm.trans k4)
  generalize hH1 : H.push ({ cls := gT g 6, slots := Array.replicate n.toNatClampNeg .null, vm := .none } : Cell) = H1
  have z1 : H1.size = H.size + 1 := by rw [← hH1, Array.size_push]
  have e1 : H1[H.size]? = some (arrV (gT g 6) n.toNatClampNeg (fun _ => .null)) := by rw [← hH1, Array.getElem?_push_size, ← arrV_new]
  have o1 : ∀ q : Nat, q < H.size → H1[q]? = H[q]? := fun q hq => by rw [← hH1, Array.getElem?_push, if_neg (Nat.ne_of_lt hq)]
  exact kk H.size H1 hW.1.2.1 (hW.1.fresh (Nat.le_refl _)) ⟨hW.1.push rfl (by rw [z1]; exact Nat.le_succ _) o1 (s_newAt (vp_cell_q _ _ _) e1), hW.2⟩
end SR
