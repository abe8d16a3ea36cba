/-! ===== rows for texts ===== -/
set_option maxRecDepth 100000
section SRW
variable {g : Gh} {l : Launch} {p : Program} {e : Env} {R : Room} {s : State} {m : MethodId} {args : Array Value} {below : List Frame} {meth : Method} {c : Code} {H : Heap} {locs : List Loc} {cells slots : Nat} {Q : State → Prop}
variable {cc : ByteArray} {nL : Nat} {own nm : String} {ret : Option FieldType} {tb : List ExceptionTableEntry} {pc : Nat} {ls : Array Slot} {rest st : List Value} {σ : Sto} {a : Nat}
theorem s_getsZ (F : Fx g l p s m args meth c cc nL own nm ret tb) (hW : Hl g σ H locs) {C n d : String} {v : Value} (hz : va_Z C n d v (gOld g) s (gH g)) {index : Nat} (hlink : Cond.fieldLink own index C n d ∈ lw_all) (hdg : decode cc pc = .ok (.getstatic index, 3))
    (kk : W p l e R s m args below meth c H locs cells slots Q (F0 m (pc + 3) ls (v :: rest))) : W p l e R s m args below meth c H locs cells slots Q (F0 m pc ls rest) := by
  obtain ⟨cf, kf, fi, f, a1, cell, h1, h2, h3, h4, h5, h6, h7, h8⟩ := hz
  exact W.gets F.x F.cd F.ow (F.ts _ hlink) h1 h2 h3 h4 (by rw [hW.1.2.2.1 a1 (Nat.lt_of_not_le h8)]; exact h5) (fun h => by rw [h] at h6; cases h6) h7 rfl hdg kk
theorem sio_ex (F : Fx g l p s m args meth c cc nL own nm ret tb) : ∃ us : RefV, va_Z "jdk/internal/util/Preconditions" "SIOOBE_FORMATTER" "Ljava/util/function/BiFunction;" us.v (gOld g) s (gH g) := by
  rcases F.ok.2.2.2.2.2.2.2.2.2.2.1 with h | ⟨t, h⟩
  · exact ⟨⟨.null, rfl⟩, h⟩
  · exact ⟨⟨.ref t, rfl⟩, h⟩
theorem s_castB (F : Fx g l p s m args meth c cc nL own nm ret tb) (hW : Hl g σ H locs) {x : vp_A} (he : σ a = some (.inl (gT g 1, x))) {index : Nat} (hlink : Cond.classLink own index "[B" ∈ lw_all) (hdg : decode cc pc = .ok (.checkcast index, 3))
    (kk : W p l e R s m args below meth c H locs cells slots Q (F0 m (pc + 3) ls (.ref a :: rest))) : W p l e R s m args below meth c H locs cells slots Q (F0 m pc ls (.ref a :: rest)) := by
  obtain ⟨cell, q1, q2, q3, -, h2, h3, -⟩ := hW.1.1 a _ he
  have hnm : s.vm.findClass "[B" = some (gT g 1) := (s_arr F (k := 1) rfl).2
  intro T hT X
  obtain ⟨vm', X', st⟩ := X.checkcastYes F.x F.ow (F.ts _ hlink) (by rw [hT]; exact q1) q2 hnm (by rw [h2]; exact va_asg _ _) (g := F0 m pc ls (.ref a :: rest)) rfl rfl (by rw [F.cd]; exact hdg)
  obtain ⟨t, a1, b1⟩ := kk (T.setVm vm') hT X'
  exact ⟨t, st t a1, b1⟩
/-- an array of bytes cloned -/
theorem s_clone (F : Fx g l p s m args meth c cc nL own nm ret tb) (hW : Hl g σ H locs) {n : Nat} {f : Nat → Int32} (he : σ a = some (eI g 1 n f)) (hb0 : gB g ≤ a) (hf : ∀ i, i < n → fits .byte (.int (f i)) = true) {index : Nat}
    (hlink : Cond.methodLink own index ⟨"[B", "clone", "()Ljava/lang/Object;"⟩ ∈ lw_all) (hsame : Cond.sameMethod "[B" "java/lang/Object" "clone" "()Ljava/lang/Object;" ∈ lw_all) (hnat : Cond.native ⟨"java/lang/Object", "clone", "()Ljava/lang/Object;"⟩ ∈ lw_all) (hinst : Cond.instanceMethod ⟨"java/lang/Object", "clone", "()Ljava/lang/Object;"⟩ ∈ lw_all)
    (hsel : Cond.selects "[B" ⟨"[B", "clone", "()Ljava/lang/Object;"⟩ ⟨"java/lang/Object", "clone", "()Ljava/lang/Object;"⟩ ∈ lw_all) (hcl : Cond.castable "[B" "java/lang/Cloneable" ∈ lw_tbl) (hls : ls.size = nL) (hframes : 1 ≤ R.frames) (hlocals : (rest.map fun v => v.category).sum + 14 ≤ R.locals) (hcells : cells + 1 ≤ R.cells) (hslots : slots + n ≤ R.slots) (hdg : decode cc pc = .ok (.invokevirtual index, 3))
    (kk : ∀ (q : Nat) (H1 : Heap), gB g ≤ q → σ q = none → Hl g (sset σ q (eI g 1 n f)) H1 locs → W p l e R s m args below meth c H1 locs (cells + 1) (slots + n) Q (F0 m (pc + 3) ls (.ref q :: rest))) : W p l e R s m args below meth c H locs cells slots Q (F0 m pc ls (.ref a :: rest)) := by
  obtain ⟨cell, q1, -, -, -, -, -, q8⟩ := hW.1.1 a _ he
  cases q8 hb0
  have hcl0 : (vp_cell (gT g 1) (n, .inl f)).cls = gT g 1 := rfl
  have hvm0 : (vp_cell (gT g 1) (n, .inl f)).vm = .none := rfl
  have hsz : (vp_cell (gT g 1) (n, .inl f)).slots.size = n := arrV_size _ _ _
  have hnm : s.vm.findClass "[B" = some (gT g 1) := (s_arr F (k := 1) rfl).2
  obtain ⟨c0, t0', f1, f2, f3⟩ := Cond.castable_spec (va_Nw.use (A := args) rfl (F.ok.2.2.2.1 _ _ hcl))
  cases hnm.symm.trans f1
  intro T hT X
  have hcellT : T.heap[a]? = some (vp_cell (gT g 1) (n, .inl f)) := by rw [hT]; exact q1
  obtain ⟨-, kA, hkA, comp, hkind⟩ := State.isArrayOf_alike X.warmed.alike ((s_arr F (k := 1) rfl).1 0 (fun _ => .null))
  obtain ⟨-, kS, hkS, compS, hkindS⟩ := (s_arr F (k := 1) rfl).1 0 (fun _ => .null)
  obtain ⟨vm', X', st⟩ := X.cloneArray F.x F.ow (F.ts _ hlink) (F.ts _ hsame) (F.ts _ hnat) (F.ts _ hinst) (F.ts _ hsel) (a := a) (cell := vp_cell (gT g 1) (n, .inl f)) hcellT (fun k h => by rw [hvm0] at h; cases h) (by rw [hvm0]; exact fun h => by cases h) (by rw [hcl0]; exact hnm) f2 (by rw [hcl0]; exact f3)
    (fun i v hv => by
      rw [hcl0]
      have hk' : T.vm.classes[gT g 1]? = some kA := hkA
      have hi : i < n := by
        have := (Array.getElem?_eq_some_iff.mp hv).1
        rw [hsz] at this
        exact this
      rw [vp_cell_i, arrV_read _ _ hi] at hv
      cases hv
      simpa [State.fitsSlot, State.slotType?, hk', hkind] using hf i hi)
    (g := F0 m pc ls (.ref a :: rest)) rfl (by rw [F.ml]; exact hls) rfl (by rw [F.cd]; exact hdg) hframes (by show 2 * 0 + _ + 14 ≤ _; omega) hcells (by rw [hsz]; exact hslots) (hloader := by rw [hcl0]; exact Vm.clonesLoader_of_array hkS hkindS)
  have hcellE : ({ cls := (vp_cell (gT g 1) (n, .inl f)).cls, slots := (vp_cell (gT g 1) (n, .inl f)).slots } : Cell) = vp_cell (gT g 1) (n, .inl f) := rfl
  rw [hcellE, hsz] at X'
  generalize hH1 : H.push (vp_cell (gT g 1) (n, .inl f)) = H1
  have z1 : H1.size = H.size + 1 := by rw [← hH1, Array.size_push]
  have e1 : H1[H.size]? = some (vp_cell (gT g 1) (n, .inl f)) := by rw [← hH1, Array.getElem?_push_size]
  have o1 : ∀ q : Nat, q < H.size → H1[q]? = H[q]? := fun q hq => by rw [← hH1, Array.getElem?_push, if_neg (Nat.ne_of_lt hq)]
  obtain ⟨t, b1, b2⟩ := kk H.size H1 hW.1.2.1 (hW.1.fresh (Nat.le_refl _)) ⟨hW.1.push rfl (by rw [z1]; exact Nat.le_succ _) o1 (s_newAt (vp_cell_i (gT g 1) n f) e1), hW.2⟩ ((T.setVm vm').pushCell (vp_cell (gT g 1) (n, .inl f))) (by rw [← hH1, ← hT]; rfl) X'
  refine ⟨t, st t ?_, b2⟩
  rw [hcellE, hT]
  exact b1
theorem lw_SU {own : String} {idx : Nat} {y : MethodName} {b : ByteArray} {L : Nat} {r : Option FieldType} (h1 : Cond.methodLink own idx y ∈ lw_all) (h2 : Cond.sameMethod y.cls y.cls y.name y.desc ∈ lw_all) (h3 : Cond.superclass own y.cls ∈ lw_all) (h4 : Cond.instanceMethod y ∈ lw_all) (h5 : Cond.initialized y.cls ∈ lw_all) (h6 : Cond.code y b L r ∈ lw_all) : GoodIn lw_all (va_wsSU own idx y (ws_ y b L r)) := by
  refine lw_app ?_ (lw_meth h6)
  intro w hw
  simp only [List.mem_cons, List.not_mem_nil, or_false] at hw
  rcases hw with e | e | e | e | e
  · rw [e]; exact h1
  · rw [e]; exact h2
  · rw [e]; exact h3
  · rw [e]; exact h4
  · rw [e]; exact h5
/-- super.m(..) -/
theorem s_callSU {y : MethodName} {bytes : ByteArray} {maxL index n : Nat} {ret' : Option FieldType} {rm : Room} {post : Option Value → Sto → Prop} {px : Addr → String → Sto → Prop} {As : List Value} {ci N : Nat} {fs : List Value} {C : String} {T : u_T} (F : Fx g l p s m args meth c cc nL own nm ret tb) (hW : Hl g σ H locs) (hM : Ct g l y bytes maxL ret' rm (.ref a :: As) σ post px) (he : σ a = some (.inr (ci, fs))) (hc : vCl[ci]? = some (C, T, N)) (h1 : Cond.methodLink own index y ∈ lw_all) (h2 : Cond.sameMethod y.cls y.cls y.name y.desc ∈ lw_all) (h3 : Cond.superclass own y.cls ∈ lw_all) (h4 : Cond.instanceMethod y ∈ lw_all) (h5 : Cond.initialized y.cls ∈ lw_all) (h6 : Cond.code y bytes maxL ret' ∈ lw_all)
    (hd : y.name ≠ "<init>" ∧ (parseMethodDescriptor y.desc).map (fun d => d.parameters.length) = some n) (hn : As.length = n) (hR : cRm R rm maxL cells slots) (hrest : (rest.map fun v => v.category).sum ≤ 8) (hls : ls.size = nL) (hst : st = As.reverse ++ .ref a :: rest) (hdg : decode cc pc = .ok (.invokespecial index, 3))
    (kx : cX p l e R s m args below meth c (cells + rm.cells) (slots + rm.slots) Q g px (F0 m pc ls rest)) (kk : cK p l e R s m args below meth c (cells + rm.cells) (slots + rm.slots) Q g post (pc + 3) ls rest) : W p l e R s m args below meth c H locs cells slots Q (F0 m pc ls st) := by
  exact s_go (vx_runSU (g := F0 m pc ls st) (s_kn F hc).2 F.1 (hM F.st) (va_cwSU n F.ts (lw_SU h1 h2 h3 h4 h5 h6) rfl rfl rfl hd hR.1) (s_preV F hW he hc) rfl hn hls hst (lv_room hrest) hdg hR.2) hW kx kk
theorem sel_priv {C : String} {x y : MethodName} (h : (Cond.selects C x x).before args s = true) (hx : x.cls = y.cls) (hpriv : (Cond.privateMethod y).before args s = true) (hinst : (Cond.instanceMethod y).before args s = true) (hy : y.cls ≠ "java/lang/invoke/MethodHandle" ∧ y.cls ≠ "java/lang/invoke/VarHandle") : (Cond.selects C y y).before args s = true := by
  obtain ⟨c, r, m, hc, -, hm, -, mk, hmk, hni⟩ := Cond.selects_spec h
  obtain ⟨my, methM, hnamed, hmethM, -, -⟩ := Cond.instanceMethod_spec hinst
  have hfound : s.methodFound? y.cls y.name y.desc = some my := State.methodFound?_of_named hnamed hy
  have hcls : my.cls = m.cls := Option.some.inj ((findClass_of_methodNamed hnamed).symm.trans (by rw [← hx]; exact findClass_of_methodNamed hm))
  have hsel : selectMethod {} s.vm c my = .method my := selectMethod_private hmethM (Cond.privateMethod_at hpriv my methM hnamed hmethM)
  have hmk' : s.vm.classes[my.cls]? = some mk := by rw [hcls]; exact hmk
  simp only [Cond.before, Cond.holds, Cond.value, hc, hfound, hnamed, hsel, hmk']
  simp; exact hni
/-- a private method on an object of a subclass -/
theorem s_callP {x y : MethodName} {bytes : ByteArray} {maxL index n : Nat} {ret' : Option FieldType} {rm : Room} {post : Option Value → Sto → Prop} {px : Addr → String → Sto → Prop} {As : List Value} {ci N : Nat} {fs : List Value} {C : String} {T : u_T} (F : Fx g l p s m args meth c cc nL own nm ret tb) (hW : Hl g σ H locs) (hM : Ct g l y bytes maxL ret' rm (.ref a :: As) σ post px) (he : σ a = some (.inr (ci, fs))) (hc : vCl[ci]? = some (C, T, N)) (h1 : Cond.methodLink own index y ∈ lw_all) (h2 : Cond.sameMethod y.cls y.cls y.name y.desc ∈ lw_all) (h3 : Cond.selects C x x ∈ lw_all) (hx : x.cls = y.cls) (hp : Cond.privateMethod y ∈ lw_tbl) (h4 : Cond.instanceMethod y ∈ lw_all) (h5 : Cond.initialized y.cls ∈ lw_all) (h6 : Cond.code y bytes maxL ret' ∈ lw_all)
    (hd : y.cls ≠ "java/lang/invoke/MethodHandle" ∧ y.cls ≠ "java/lang/invoke/VarHandle" ∧ (parseMethodDescriptor y.desc).map (fun d => d.parameters.length) = some n) (hn : As.length = n) (hR : cRm R rm maxL cells slots) (hrest : (rest.map fun v => v.category).sum ≤ 8) (hls : ls.size = nL) (hst : st = As.reverse ++ .ref a :: rest) (hdg : decode cc pc = .ok (.invokevirtual index, 3))
    (kx : cX p l e R s m args below meth c (cells + rm.cells) (slots + rm.slots) Q g px (F0 m pc ls rest)) (kk : cK p l e R s m args below meth c (cells + rm.cells) (slots + rm.slots) Q g post (pc + 3) ls rest) : W p l e R s m args below meth c H locs cells slots Q (F0 m pc ls st) :=
  s_go (vx_runU (owner := y.cls) (g := F0 m pc ls st) F.1 (hM F.st) ⟨⟨rfl, rfl, hR.1.1, hR.1.2, pay_in F.ts (lw_meth h6), List.mem_cons_self⟩, F.ts _ h6, F.ts _ h5, ⟨hd.1, hd.2.1⟩, (fun sig h => by
    have h2 := hd.2.2
    rw [h] at h2
    exact (Option.some.inj h2).symm), F.ts _ h1, F.ts _ h2, va_Decl.of (F.ts _ h4) (F.ts _ h6), sel_priv (F.ts _ h3) hx (va_Nw.use rfl (F.ok.2.2.2.2.2.2.2.2.2.2.2.2.2.2 _ hp)) (F.ts _ h4) ⟨hd.1, hd.2.1⟩, F.ts _ h4⟩ (s_preV F hW he hc) rfl hn hls hst (lv_room hrest) hdg hR.2) hW kx kk
end SRW
theorem ishr0 : ∀ n, nI n >>> (nI 0 &&& 31) = nI n := fun n => by
  rw [show nI 0 &&& 31 = 0 by decide]
  exact Int32.shiftRight_zero
theorem ishl0 : ∀ n, nI n <<< (nI 0 &&& 31) = nI n := fun n => by
  rw [show nI 0 &&& 31 = 0 by decide]
  exact Int32.shiftLeft_zero
theorem and255 : ∀ n, n < 256 → nI n &&& nI 255 = nI n := by decide +kernel
theorem i2b_nI : ∀ n, n < 128 → (Int32.toInt8 (nI n)).toInt32 = nI n := by decide +kernel
theorem i2c_nI : ∀ n, n < 512 → (Int32.toUInt32 (nI n) % 65536).toInt32 = nI n := by decide +kernel
theorem fit_byte : ∀ n, n < 128 → fits .byte (.int (nI n)) = true := by decide +kernel
theorem nar_byte : ∀ n, n < 128 → narrow .byte (.int (nI n)) = .int (nI n) := by decide +kernel
theorem bts_lt {L : List Nat} (h : ∀ c ∈ L, c < 128) (j : Nat) : L.getD j 0 < 128 := by
  rw [List.getD_eq_getElem?_getD]
  cases e : L[j]? with
  | none => exact (by decide)
  | some c => exact h c (List.mem_of_getElem? e)
/-- the hash of the first k letters -/
def hsh (L : List Nat) (k : Nat) : Int32 := hashN (L.take k)
theorem hsh_0 {L : List Nat} : hsh L 0 = nI 0 := by
  unfold hsh hashN
  rw [List.take_zero]
  rfl
theorem hsh_s {L : List Nat} {k : Nat} (h : k < L.length) : hsh L (k + 1) = nI 31 * hsh L k + nI (L.getD k 0) := by
  unfold hsh hashN
  rw [List.take_succ, List.getD_eq_getElem?_getD, List.getElem?_eq_getElem h, Option.toList_some, List.foldl_append]
  rfl
theorem hsh_e {L : List Nat} : hsh L L.length = hashN L := by
  unfold hsh
  rw [List.take_length]
/-- the same letters -/
theorem str_eq {L M : List Nat} (h : L.length = M.length) (hj : ∀ j, j < L.length → L.getD j 0 = M.getD j 0) : L = M := by
  apply List.ext_getElem h
  intro j h1 h2
  have := hj j h1
  rw [List.getD_eq_getElem?_getD, List.getD_eq_getElem?_getD, List.getElem?_eq_getElem h1, List.getElem?_eq_getElem h2] at this
  exact this
/-- where a letter stands first, from i on -/
def ixF (L : List Nat) (c i : Nat) : Nat → Int32
  | 0 => -1
  | n + 1 => if L.getD i 0 = c then nI i else ixF L c (i + 1) n
