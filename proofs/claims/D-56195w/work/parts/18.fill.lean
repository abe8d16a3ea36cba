/-! ===== fillInStackTrace() within Throwable's constructor (after vx_ctorMade0, plain0RoomsV) ===== -/
set_option maxRecDepth 100000
def flAt (C : String) : List Cond := Bundle.throwableAtoms ++ [.selects C Bundle.tFill0 Bundle.tFill0, .selects C Bundle.tFill Bundle.tFill, .fieldLink Bundle.tN 198 Bundle.tN "backtrace" "Ljava/lang/Object;", .lays Bundle.tN Bundle.tN "backtrace" "Ljava/lang/Object;", .lays C Bundle.tN "stackTrace" Bundle.steD, .isRef (.static Bundle.tN "UNASSIGNED_STACK" Bundle.steD), .isRef (.static Bundle.tN "SUPPRESSED_SENTINEL" Bundle.listD)]
/-- what a static of references holds -/
def stV (g : Gh) (s : State) (n d : String) (v : Value) : Prop := va_Z Bundle.tN n d v (gOld g) s (gH g)
section SF
variable {g : Gh} {l : Launch} {p : Program} {e : Env} {R : Room} {s : State} {m : MethodId} {args : Array Value} {below : List Frame} {meth : Method} {c : Code} {H : Heap} {locs : List Loc} {cells slots : Nat} {Q : State → Prop}
variable {cc : ByteArray} {nL : Nat} {own nm : String} {ret : Option FieldType} {tb : List ExceptionTableEntry} {pc : Nat} {ls : Array Slot} {rest st : List Value} {σ : Sto} {a : Nat}
theorem s_getsV (F : Fx g l p s m args meth c cc nL own nm ret tb) (hW : Hl g σ H locs) {n d : String} {v : Value} (hz : stV g s n d v) {index : Nat} (hlink : Cond.fieldLink own index Bundle.tN n d ∈ lw_all) (hdg : decode cc pc = .ok (.getstatic index, 3))
    (kk : W p l e R s m args below meth c H locs cells slots Q (F0 m (pc + 3) ls (v :: rest))) : W p l e R s m args below meth c H locs cells slots Q (F0 m pc ls rest) := by
  obtain ⟨cf, kf, fi, f, a1, cell, h1, h2, h3, h4, h5, h6, h7, h8⟩ := hz
  exact W.gets F.x F.cd F.ow (F.ts _ hlink) h1 h2 h3 h4 (by rw [hW.1.2.2.1 a1 (Nat.lt_of_not_le h8)]; exact h5) (fun h => by rw [h] at h6; cases h6) h7 rfl hdg kk
theorem stV_ex (F : Fx g l p s m args meth c cc nL own nm ret tb) : ∃ u0 sen : RefV, stV g s "UNASSIGNED_STACK" Bundle.steD u0.v ∧ stV g s "SUPPRESSED_SENTINEL" Bundle.listD sen.v := by
  obtain ⟨hU0, hN0⟩ := F.ok.2.2.2.2.2.2.2.2.2.1
  have k : ∀ {n d : String}, va_Zq Bundle.tN n d (gOld g) s (gH g) → ∃ u : RefV, stV g s n d u.v := fun {n d} h => by
    rcases h with h | ⟨t, h⟩
    · exact ⟨⟨.null, rfl⟩, h⟩
    · exact ⟨⟨.ref t, rfl⟩, h⟩
  obtain ⟨u, hu⟩ := k hU0.1
  obtain ⟨w, hw⟩ := k hN0.1
  exact ⟨u, w, hu, hw⟩
theorem s_fill (F : Fx g l p s m args meth c cc nL Bundle.tN nm ret tb) (hW : Hl g σ H locs) {ci : Nat} {fs : List Value} (he : σ a = some (.inr (ci, fs))) (hb : gB g ≤ a) (hx : exo (.inr (ci, fs))) {C : String} {T0 : u_T} {N : Nat} (hc : vCl[ci]? = some (C, T0, N)) (hN : 4 < N) (h1n : (T0 1).1 = Bundle.tN ∧ (T0 1).2.1 = "stackTrace" ∧ (T0 1).2.2.1 = Bundle.steD) (h4n : (T0 4).1 = Bundle.tN ∧ (T0 4).2.1 = "backtrace" ∧ (T0 4).2.2.1 = "Ljava/lang/Object;")
    {u0 : RefV} (hu : stV g s "UNASSIGNED_STACK" Bundle.steD u0.v) (hf1 : vp_V fs 1 = u0.v) (hf4 : vp_V fs 4 = .null)
    (hat : ∀ w ∈ (flAt C).filter vx_no, w.before args s = true) (hgood : ∀ w ∈ (flAt C).filter vx_no, vx_ot w = true) (hsize : ls.size = nL) (hdg : decode cc pc = .ok (.invokevirtual 27, 3))
    (hRframes : 2 < R.frames) (hRlocals : (rest.map fun v => v.category).sum + 60 ≤ R.locals) (hRc : cells ≤ R.cells ∧ slots ≤ R.slots)
    (kk : W p l e R s m args below meth c H locs cells slots Q (F0 m (pc + 3) ls (.ref a :: rest))) : W p l e R s m args below meth c H locs cells slots Q (F0 m pc ls (.ref a :: rest)) := by
  intro T hT X
  subst hT
  have hexec := F.x
  have hsize : ls.size = c.maxLocals := by rw [F.ml]; exact hsize
  have htr : e.platform.stackTraces = false := (show e.platform.stackTraces = l.stackTraces by rw [X.admits.platform]).trans F.st
  have Y := vx_rebase X (R' := { frames := R.frames, locals := R.locals, cells := 0, slots := 0 }) (Nat.le_refl _) (Nat.le_refl _) hRc.1 hRc.2
  obtain ⟨s', hA'⟩ : ∃ z, z = (T.setVm s.vm).setFrames (.invoking m args :: below) := ⟨_, rfl⟩
  rw [← hA'] at Y
  have hvm : s'.vm = s.vm := by rw [hA']; rfl
  have hhp : s'.heap = T.heap := by rw [hA']; rfl
  have hW0 : s.WarmedH s'.vm := by rw [hvm]; exact State.WarmedH.refl s
  have hat' : ∀ w ∈ (flAt C).filter vx_no, w.before args s' = true := fun w hw => vx_ot_at hW0 hvm.symm (hgood w hw) (hat w hw)
  have hkeep : ∀ q : Nat, q < (gH g).size → ¬ gOld g q → T.heap[q]? = (gH g)[q]? := fun q h1 _ => hW.1.2.2.1 q h1
  obtain ⟨hU0, hN0⟩ := F.ok.2.2.2.2.2.2.2.2.2.1
  have hU' : vx_Zq Bundle.tN "UNASSIGNED_STACK" Bundle.steD (gOld g) s' s'.heap := by rw [hhp]; exact vx_Zq.moved hW0.alike (hU0.kept hkeep)
  have hN' : vx_Zq Bundle.tN "SUPPRESSED_SENTINEL" Bundle.listD (gOld g) s' s'.heap := by rw [hhp]; exact vx_Zq.moved hW0.alike (hN0.kept hkeep)
  have hu' : va_Z Bundle.tN "UNASSIGNED_STACK" Bundle.steD u0.v (gOld g) s' s'.heap := by rw [hhp]; exact va_Z.moved hW0.alike (va_Z.kept hu hkeep)
  have h : ∀ w ∈ flAt C, w.before args s' = true := vx_own hat' (vx_isRefq hU'.1) (vx_isRefq hN'.1) hU'.2.word hN'.2.word
  have a' : ∀ x, x ∈ flAt C → x.holds args s' none s' [] = true := fun x hx => h x hx
  have howns : e.platform.frameOwnsMonitors = true := by rw [X.admits.platform]
  have hfin : e.platform.finalization = false := by rw [X.admits.platform]
  have hpl : e.platform.magicAccessors = ({} : Platform).magicAccessors := by rw [X.admits.platform]
  obtain ⟨TT, Z0, L, -, Y9⟩ := ThrowableC.of_atoms (args := args) howns hfin hpl (fun x hx => h x (by simp [flAt, hx]))
  obtain ⟨cell, q1, q2, q3, q4, r, k1, k2, k3⟩ := hW.1.1 a _ he
  have hr : r = (C, T0, N) := Option.some.inj (k1.symm.trans hc)
  subst hr
  obtain ⟨hcv, hmon⟩ := q4 hb
  obtain ⟨hm1, hm2⟩ := hmon hx
  obtain ⟨hS, hfc, kC, hkC, hkind⟩ := s_kn F hc
  have hfound : s'.vm.findClass C = some cell.cls := by rw [hvm, k2]; exact hfc
  have hkC' : s'.vm.classes[cell.cls]? = some kC := by rw [hvm, k2]; exact hkC
  have hsel0 : selectMethod e.platform s'.vm cell.cls TT.fill0 = .method TT.fill0 := by
    obtain ⟨c2, r2, m2, z1, z2, z3, z4, -⟩ := Cond.selects_spec (a' (.selects C Bundle.tFill0 Bundle.tFill0) (by simp [flAt]))
    cases Option.some.inj (z1.symm.trans hfound)
    cases Option.some.inj (z2.symm.trans (State.methodFound?_of_named Y9.fill0 (by decide)))
    cases Option.some.inj (z3.symm.trans Y9.fill0)
    rw [Launch.admits_selectMethod X.admits]; exact z4
  have hselF : selectMethod e.platform s'.vm cell.cls TT.fill = .method TT.fill ∧ ∃ mk, s'.vm.classes[TT.fill.cls]? = some mk ∧ mk.isInterface = false := by
    obtain ⟨c2, r2, m2, z1, z2, z3, z4, z5⟩ := Cond.selects_spec (a' (.selects C Bundle.tFill Bundle.tFill) (by simp [flAt]))
    cases Option.some.inj (z1.symm.trans hfound)
    cases Option.some.inj (z2.symm.trans (State.methodFound?_of_named Y9.fill (by decide)))
    cases Option.some.inj (z3.symm.trans Y9.fill)
    exact ⟨by rw [Launch.admits_selectMethod X.admits]; exact z4, z5⟩
  obtain ⟨hselF, mkF, hmkF, hmkFi⟩ := hselF
  obtain ⟨cellS0, hcS0, hiss⟩ := Y9.statics
  have hvU : cellS0.slots[TT.fUnassigned.slot]? = some u0.v := by
    obtain ⟨cf, kf, fi, f, a1, cell1, z1, z2, z3, z4, z5, z6, z7, z8⟩ := hu'
    cases Option.some.inj (z1.symm.trans Y9.unassigned)
    have e1 : a1 = TT.aS := Option.some.inj (z4.symm.trans L.statics)
    subst e1
    rw [← Option.some.inj (z5.symm.trans hcS0)]
    exact z7
  have hcS : T.heap[TT.aS]? = some cellS0 := by rw [← hhp]; exact hcS0
  have hneS : TT.aS ≠ a := by
    intro e9
    rw [e9, q1] at hcS
    rw [Option.some.inj hcS] at q2
    rw [hiss] at q2
    cases q2
  have hknownS : cellS0.vm ≠ .unknown := fun hu => by rw [hu] at hiss; cases hiss
  obtain ⟨ci198, i198, fB, hk198, hg198, ha198, hsB, -, hnB, htB, hffB⟩ := Cond.ownField (t := .object "java/lang/Object") Y9.found L.cls (by decide +kernel) (a' (.fieldLink Bundle.tN 198 Bundle.tN "backtrace" "Ljava/lang/Object;") (by simp [flAt])) (a' (.lays Bundle.tN Bundle.tN "backtrace" "Ljava/lang/Object;") (by simp [flAt])) e.platform hpl
  have slot : ∀ {k : Nat} {n d : String} {cf : ClassId} {kf : Class} {fi : Nat} {f : Field}, k < N → (T0 k).1 = Bundle.tN → (T0 k).2.1 = n → (T0 k).2.2.1 = d → s'.fieldFound? Bundle.tN n d = some (cf, kf, fi, f) → cell.slots[f.slot]? = some (vp_V fs k) := fun {k n d cf kf fi f} hk e1 e2 e3 hf => by
    obtain ⟨cf2, kf2, fi2, f2, hi, hsl⟩ := hS k hk
    rw [e1, e2, e3] at hi
    have hi' : s'.fieldFound? Bundle.tN n d = some (cf2, kf2, fi2, f2) := by rw [← hi]; unfold State.fieldFound?; rw [hvm]
    cases Option.some.inj (hi'.symm.trans hf)
    rw [hsl]
    exact k3 k hk
  have hvS : cell.slots[TT.fStack.slot]? = some u0.v := by rw [← hf1]; exact slot (by omega) h1n.1 h1n.2.1 h1n.2.2 Y9.stack
  have hvB : cell.slots[fB.slot]? = some .null := by rw [← hf4]; exact slot hN h4n.1 h4n.2.1 h4n.2.2 hffB
  obtain ⟨tyS, dS, hdS, hdnS⟩ := Cond.laysAt hfound hkC' Y9.stack (a' (.lays C Bundle.tN "stackTrace" Bundle.steD) (by simp [flAt]))
  obtain ⟨mk9, methF, hnF, hmF, hstF, habF⟩ := Cond.instanceMethod_spec (a' (.instanceMethod Bundle.tFill) (by simp [flAt, Bundle.throwableAtoms]))
  cases Option.some.inj (hnF.symm.trans Y9.fill)
  obtain ⟨methF', cF, hmF', hcF, hbF, hlF, hrF, hlkF, -, hsigF⟩ := Cond.codeSync_spec hnF (a' (.codeSync Bundle.tFill LibCode.Throwable.Fill.code 1 (some (.object Bundle.tN))) (by simp [flAt, Bundle.throwableAtoms]))
  cases Option.some.inj (hmF.symm.trans hmF')
  have hpar : ([] : List Value).length = methF.sig.parameters.length := by
    have h2 : (parseMethodDescriptor Bundle.tFill.desc).map (fun d => d.parameters.length) = some 0 := by decide +kernel
    rw [hsigF] at h2
    exact (Option.some.inj h2).symm
  obtain ⟨vm₁, X₁, hstep₁⟩ := Y.invokevirtual hexec (own := Bundle.tN) (index := 27) (x := Bundle.tFill) (by rw [hvm]; exact F.ow) (h (.methodLink Bundle.tN 27 Bundle.tFill) (by simp [flAt, Bundle.throwableAtoms])) hnF hmF hstF hmkF hmkFi (by decide) (a := a) (cell := cell) q1 (fun z hz => by rw [hz] at q2; cases q2) hselF hmF habF hmkF hmkFi
    (g := F0 m pc ls (.ref a :: rest)) rfl (argsL := []) (rest := rest) hpar rfl (by rw [F.cd]; exact hdg)
  have hAt : At (T.setVm vm₁) m c below := X₁.here
  have hlt : a < T.heap.size := (Array.getElem?_eq_some_iff.mp q1).1
  have hfr' : (T.setVm vm₁).frames.length + 2 < (e.platform.stackLimits (T.setVm vm₁).me).1 := X₁.framesAbove hRframes
  have hwd' : (stackUse (.java (F0 m pc ls rest) :: (T.setVm vm₁).frames.tail)).2 + 45 ≤ (e.platform.stackLimits (T.setVm vm₁).me).2 := X₁.stackAbove (g := F0 m pc ls rest) hsize (K := 45) (by show 2 * 0 + (rest.map fun v => v.category).sum + 45 ≤ R.locals; omega)
  have htop : (T.setVm vm₁).topJava?.isSome := hAt.top
  have hroomN : ∀ vm1, e.platform.stackFull ((((fillInside ((T.setVm vm₁).setVm vm1) (F0 m pc ls rest) TT.fill a cell).setTop (fillJ TT.fill a 16 [])).threads[((fillInside ((T.setVm vm₁).setVm vm1) (F0 m pc ls rest) TT.fill a cell).setTop (fillJ TT.fill a 16 [])).cur]?).getD { frames := [] }) ((fillInside ((T.setVm vm₁).setVm vm1) (F0 m pc ls rest) TT.fill a cell).setTop (fillJ TT.fill a 16 [])).frames (nativeFrameWords "java/lang/Throwable" "fillInStackTrace" 2) = false := by
    intro vm1
    have htopE : (((T.setVm vm₁).setVm vm1).setCell a (cell.withEntry ((T.setVm vm₁).setVm vm1).cur)).topJava?.isSome := htop
    have hfF : (fillInside ((T.setVm vm₁).setVm vm1) (F0 m pc ls rest) TT.fill a cell).frames = .java (entryFrameSync TT.fill #[.ref a] 1 a) :: .java (F0 m pc ls rest) :: (T.setVm vm₁).frames.tail := frames_entered (g := F0 m pc ls rest) htopE _
    have htopF : (fillInside ((T.setVm vm₁).setVm vm1) (F0 m pc ls rest) TT.fill a cell).topJava?.isSome := by rw [State.topJava?_of_frames hfF]; rfl
    have hlimF : e.platform.stackLimits (fillInside ((T.setVm vm₁).setVm vm1) (F0 m pc ls rest) TT.fill a cell).me = e.platform.stackLimits (T.setVm vm₁).me := by
      rw [State.stackLimits_pushFrame, State.stackLimits_setTop _ htopE]; rfl
    have hw13 : (stackUse [Frame.java (fillJ TT.fill a 16 [])]).2 ≤ 20 := by
      rw [stackUse_java, stackUse_nil]
      simp [operandWords]
    obtain ⟨g₀, hg⟩ := Option.isSome_iff_exists.mp htop
    obtain ⟨tl, htl⟩ := State.topJava?_eq_some.mp hg
    have hlen : (T.setVm vm₁).frames.length = (Frame.java (F0 m pc ls rest) :: (T.setVm vm₁).frames.tail).length := by rw [htl]; rfl
    have hnw : nativeFrameWords "java/lang/Throwable" "fillInStackTrace" 2 + 11 ≤ 25 := by decide
    exact roomAbove (pl := e.platform) (pushed := [.java (fillJ TT.fill a 16 [])]) (base := .java (F0 m pc ls rest) :: (T.setVm vm₁).frames.tail) (free := 45) (lim := e.platform.stackLimits (T.setVm vm₁).me) (State.frames_setTop _ hfF) (by rw [State.stackLimits_setTop _ htopF]; exact hlimF)
      (by rw [← hlen]; simp only [List.length_cons, List.length_nil]; omega) hwd' (by omega)
  have htS : Takes s' cell TT.fStack u0.v := by
    have h0 := (Takes.of_laid (c := cell.cls) (v := u0.v) hkC' hkind tyS (by rw [Y9.stackType]; exact fits_refV_array _ u0)).2
    refine ⟨(Array.getElem?_eq_some_iff.mp hvS).1, ?_⟩
    rw [hcv]
    exact h0
  obtain ⟨vm₂, hW2, st2⟩ := Steps.fillColdAnyV p (V := T.setVm vm₁) (g := F0 m pc ls rest) (c := c) (self := a) hAt hexec TT L X₁.warmed (Nn := fun u => u) heapOnly_id (fun _ _ => rfl) (fun _ => rfl) (fun u x y => setCell_twice _ _ _ _) (cell := cell) (cellS := cellS0) (cN := cell.withEntry (T.setVm vm₁).cur)
    (u0 := u0) (ig := .invokevirtual 27) (len := 3) [] q1 (fun z hz => by rw [hz] at q2; cases q2) q3 (Or.inl hm1) hvS hsel0 hcS hneS hknownS hvU (fun _ hu => hu) (fun _ hu => hu) rfl rfl rfl rfl
    htS (by rw [F.cd]; exact hdg)
    (fun _ vm1 hW1 hA t' hs => L.nativeOff p htr hA hW1 (hroomN vm1) hs)
    (X₁.notFull (g := F0 m pc ls rest) hsize (vars := 3) (by show 1 ≤ R.frames; omega) (by show 2 * 0 + (rest.map fun v => v.category).sum + (3 + 11) ≤ R.locals; omega))
    ⟨{ ci198 := ci198, i198 := i198, fBack := fB }, ⟨hk198, hg198, ha198, hsB⟩, hvB, fun _ _ => rfl⟩
  have hsame : ((cell.withEntry (T.setVm vm₁).cur).setSlot TT.fStack.slot u0.v).left = cell := by
    rw [← Cell.withEntry_setSlot, Cell.setSlot_same hvS]
    exact Cell.left_withEntry _ hm1 hm2
  have hset : (((T.setVm vm₁).setVm vm₂).setCell a cell).heap = T.heap := by
    show T.heap.setIfInBounds a cell = T.heap
    apply Array.ext_getElem?
    intro i
    rw [Array.getElem?_setIfInBounds]
    split
    · rename_i e9
      subst e9
      exact q1.symm
    · rfl
  have hst : ((T.setVm vm₁).setVm vm₂).setCell a cell = T.setVm vm₂ := by
    have e9 : ((T.setVm vm₁).setVm vm₂).setCell a cell = { T.setVm vm₂ with heap := (((T.setVm vm₁).setVm vm₂).setCell a cell).heap } := rfl
    rw [e9, hset]
    rfl
  rw [hsame, hst] at st2
  have hW3 : s.WarmedH vm₂ := State.WarmedH.trans hW0 hW2
  obtain ⟨t, b1, b2⟩ := kk (T.setVm vm₂) rfl (X.noted hW3)
  exact ⟨t, hstep₁ _ (fun acts => by rw [doInvoke_state]; exact st2 _ b1), b2⟩
end SF
