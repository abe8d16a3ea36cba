/-! ===== calls, answers, throws ===== -/
set_option maxRecDepth 100000
/-- q is a thrown cell of class E -/
def Tx (s : State) (H : Heap) (q : Nat) (E : String) : Prop := ∃ ce : Cell, H[q]? = some ce ∧ ce.vm = .none ∧ s.vm.findClass E = some ce.cls
section SC
variable {g : Gh} {l : Launch} {p : Program} {e : Env} {R : Room} {s : State} {m : MethodId} {args : Array Value} {below : List Frame} {meth : Method} {c : Code} {H : Heap} {locs : List Loc} {cells slots : Nat} {Q : State → Prop}
variable {cc : ByteArray} {nL : Nat} {own nm : String} {ret : Option FieldType} {tb : List ExceptionTableEntry} {pc : Nat} {ls : Array Slot} {rest st : List Value} {σ : Sto} {a : Nat}
variable {y x : MethodName} {bytes : ByteArray} {maxL index n : Nat} {ret' : Option FieldType} {rm : Room} {post : Option Value → Sto → Prop} {px : Addr → String → Sto → Prop} {As : List Value} {ci N : Nat} {fs : List Value} {C : String} {T : u_T}
theorem s_recv (F : Fx g l p s m args meth c cc nL own nm ret tb) (hW : Hl g σ H locs) (he : σ a = some (.inr (ci, fs))) (hc : vCl[ci]? = some (C, T, N)) : ∃ cell : Cell, H[a]? = some cell ∧ cell.vm.isStatics = false ∧ s.vm.findClass C = some cell.cls := by
  obtain ⟨cell, q1, q2, -, -, r, h1, h2, -⟩ := hW.1.1 a _ he
  exact ⟨cell, q1, q2, by rw [h2]; exact (s_kn F hc).2.1⟩
theorem s_preS (F : Fx g l p s m args meth c cc nL own nm ret tb) (hW : Hl g σ H locs) {av : List Value} : PreS s H (CP g av σ) av :=
  ⟨CP_blind, fun U hU hWm => ⟨rfl, gAll.moved hWm F.2.1, by rw [hU]; exact hW.1⟩⟩
theorem s_preV (F : Fx g l p s m args meth c cc nL own nm ret tb) (hW : Hl g σ H locs) (he : σ a = some (.inr (ci, fs))) (hc : vCl[ci]? = some (C, T, N)) : PreV s H C a (CP g (.ref a :: As) σ) As :=
  ⟨CP_blind, s_recv F hW he hc, fun U hU hWm => ⟨rfl, gAll.moved hWm F.2.1, by rw [hU]; exact hW.1⟩⟩
theorem s_go {mc ms : Nat} {av : Array Value} (hr : vx_Run p l e R s m args below meth c H locs cells slots mc ms (F0 m pc ls st) rest (CQ g post av) (CX g px) (gF g)) (hW : Hl g σ H locs)
    (kx : ∀ (E : String) (q9 : Nat) (σ' : Sto) (H1 : Heap) (locs1 : List Loc), px q9 E σ' → Hl g σ' H1 locs1 → Tx s H1 q9 E → vx_W p l e R s m args below meth c H1 locs1 (cells + mc) (slots + ms) Q (F0 m pc ls rest) q9)
    (kk : ∀ (v : Option Value) (σ' : Sto) (H1 : Heap) (locs1 : List Loc), post v σ' → Hl g σ' H1 locs1 → W p l e R s m args below meth c H1 locs1 (cells + mc) (slots + ms) Q (F0 m (pc + 3) ls (v.toList ++ rest))) : W p l e R s m args below meth c H locs cells slots Q (F0 m pc ls st) := by
  intro T hT X
  rcases hr T hT X with ⟨v, st₀, t, T', L, h0, X', hL, e1, e2, ⟨r9, σ', hv, hp, hb⟩, st⟩ | ⟨q, st₀, t, T', L, E, ce, h0, X', hL, e1, e2, ⟨σ', hp, hb⟩, hce, hcv, hcl, st⟩
  · cases hv
    obtain ⟨t2, a1, b1⟩ := kk _ σ' T'.heap (locs ++ L) hp (hW.lL hL (by rw [e1]; exact hb)) T' rfl X'
    exact ⟨t2, st t2 a1, b1⟩
  · obtain ⟨t2, a1, b1⟩ := kx E q σ' T'.heap (locs ++ L) hp (hW.lL hL (by rw [e1]; exact hb)) ⟨ce, by rw [e1]; exact hce, hcv, hcl⟩ T' rfl X'
    exact ⟨t2, st.trans a1, b1⟩
theorem s_go5 {mc ms : Nat} {av : Array Value} (hr : vx_Run5 p l e R s m args below meth c H locs cells slots mc ms (F0 m pc ls st) rest (CQ g post av) (CX g px) (gF g)) (hW : Hl g σ H locs)
    (kx : ∀ (E : String) (q9 : Nat) (σ' : Sto) (H1 : Heap) (locs1 : List Loc), px q9 E σ' → Hl g σ' H1 locs1 → Tx s H1 q9 E → vx_W p l e R s m args below meth c H1 locs1 (cells + mc) (slots + ms) Q (F0 m pc ls rest) q9)
    (kk : ∀ (v : Option Value) (σ' : Sto) (H1 : Heap) (locs1 : List Loc), post v σ' → Hl g σ' H1 locs1 → W p l e R s m args below meth c H1 locs1 (cells + mc) (slots + ms) Q (F0 m (pc + 5) ls (v.toList ++ rest))) : W p l e R s m args below meth c H locs cells slots Q (F0 m pc ls st) := by
  intro T hT X
  rcases hr T hT X with ⟨v, st₀, t, T', L, h0, X', hL, e1, e2, ⟨r9, σ', hv, hp, hb⟩, st⟩ | ⟨q, st₀, t, T', L, E, ce, h0, X', hL, e1, e2, ⟨σ', hp, hb⟩, hce, hcv, hcl, st⟩
  · cases hv
    obtain ⟨t2, a1, b1⟩ := kk _ σ' T'.heap (locs ++ L) hp (hW.lL hL (by rw [e1]; exact hb)) T' rfl X'
    exact ⟨t2, st t2 a1, b1⟩
  · obtain ⟨t2, a1, b1⟩ := kx E q σ' T'.heap (locs ++ L) hp (hW.lL hL (by rw [e1]; exact hb)) ⟨ce, by rw [e1]; exact hce, hcv, hcl⟩ T' rfl X'
    exact ⟨t2, st.trans a1, b1⟩
/-- a callee that never throws -/
theorem nox_x {P : Prop} {q : Addr} {E : String} {σ1 : Sto} (h : nox q E σ1) : P := h.elim
abbrev cHd (y : MethodName) (n : Nat) : Prop := y.cls ≠ "java/lang/invoke/MethodHandle" ∧ y.cls ≠ "java/lang/invoke/VarHandle" ∧ (parseMethodDescriptor y.desc).map (fun d => d.parameters.length) = some n
abbrev cRm (R rm : Room) (maxL cells slots : Nat) : Prop := (rm.frames + 1 ≤ R.frames ∧ 8 + (maxL + 11) + rm.locals ≤ R.locals) ∧ (cells + rm.cells ≤ R.cells ∧ slots + rm.slots ≤ R.slots)
abbrev cX (p : Program) (l : Launch) (e : Env) (R : Room) (s : State) (m : MethodId) (args : Array Value) (below : List Frame) (meth : Method) (c : Code) (cells slots : Nat) (Q : State → Prop) (g : Gh) (px : Addr → String → Sto → Prop) (fr : JFrame) : Prop :=
  ∀ (E : String) (q9 : Nat) (σ' : Sto) (H1 : Heap) (locs1 : List Loc), px q9 E σ' → Hl g σ' H1 locs1 → Tx s H1 q9 E → vx_W p l e R s m args below meth c H1 locs1 cells slots Q fr q9
abbrev cK (p : Program) (l : Launch) (e : Env) (R : Room) (s : State) (m : MethodId) (args : Array Value) (below : List Frame) (meth : Method) (c : Code) (cells slots : Nat) (Q : State → Prop) (g : Gh) (post : Option Value → Sto → Prop) (pc : Nat) (ls : Array Slot) (rest : List Value) : Prop :=
  ∀ (v : Option Value) (σ' : Sto) (H1 : Heap) (locs1 : List Loc), post v σ' → Hl g σ' H1 locs1 → W p l e R s m args below meth c H1 locs1 cells slots Q (F0 m pc ls (v.toList ++ rest))
theorem cX_no {fr : JFrame} : cX p l e R s m args below meth c cells slots Q g nox fr := fun _ _ _ _ _ h => h.elim
/-- invokevirtual -/
theorem s_callV (F : Fx g l p s m args meth c cc nL own nm ret tb) (hW : Hl g σ H locs) (hM : Ct g l y bytes maxL ret' rm (.ref a :: As) σ post px) (he : σ a = some (.inr (ci, fs))) (hc : vCl[ci]? = some (C, T, N)) (h1 : Cond.methodLink own index y ∈ lw_all) (h2 : Cond.instanceMethod y ∈ lw_all) (h3 : Cond.selects C y y ∈ lw_all) (h4 : Cond.initialized C ∈ lw_all) (h5 : Cond.code y bytes maxL ret' ∈ lw_all)
    (hy : y.cls = C) (hd : cHd y n) (hn : As.length = n) (hR : cRm R rm maxL cells slots) (hrest : (rest.map fun v => v.category).sum ≤ 8) (hls : ls.size = nL) (hst : st = As.reverse ++ .ref a :: rest) (hdg : decode cc pc = .ok (.invokevirtual index, 3))
    (kx : cX p l e R s m args below meth c (cells + rm.cells) (slots + rm.slots) Q g px (F0 m pc ls rest)) (kk : cK p l e R s m args below meth c (cells + rm.cells) (slots + rm.slots) Q g post (pc + 3) ls rest) : W p l e R s m args below meth c H locs cells slots Q (F0 m pc ls st) :=
  s_go (vx_runV (g := F0 m pc ls st) F.1 (hM F.st) (cwV n F.ts (lw_V h1 h2 h3 h4 h5) rfl rfl rfl ⟨hy, hd⟩ hR.1) (s_preV F hW he hc) rfl hn hls hst (lv_room hrest) hdg hR.2) hW kx kk
/-- a static method -/
theorem s_callS (F : Fx g l p s m args meth c cc nL own nm ret tb) (hW : Hl g σ H locs) (hM : Ct g l y bytes maxL ret' rm As σ post px) (h1 : Cond.methodLink own index y ∈ lw_all) (h2 : Cond.static y ∈ lw_all) (h4 : Cond.initialized y.cls ∈ lw_all) (h5 : Cond.code y bytes maxL ret' ∈ lw_all)
    (hd : cHd y n) (hn : As.length = n) (hR : cRm R rm maxL cells slots) (hrest : (rest.map fun v => v.category).sum ≤ 8) (hls : ls.size = nL) (hst : st = As.reverse ++ rest) (hdg : decode cc pc = .ok (.invokestatic index, 3))
    (kx : cX p l e R s m args below meth c (cells + rm.cells) (slots + rm.slots) Q g px (F0 m pc ls rest)) (kk : cK p l e R s m args below meth c (cells + rm.cells) (slots + rm.slots) Q g post (pc + 3) ls rest) : W p l e R s m args below meth c H locs cells slots Q (F0 m pc ls st) :=
  s_go (vx_runS (g := F0 m pc ls st) F.1 (hM F.st) (va_cwS n F.ts (lw_S h1 h2 h4 h5) rfl rfl rfl hd hR.1) (s_preS F hW) rfl hn hls hst (lv_room hrest) hdg hR.2) hW kx kk
/-- .. with handlers -/
theorem s_callSW {hh : List (Nat × Nat × Nat × Nat)} (F : Fx g l p s m args meth c cc nL own nm ret tb) (hW : Hl g σ H locs) (hM : CtW g l y bytes maxL ret' hh rm As σ post px) (h1 : Cond.methodLink own index y ∈ lw_all) (h2 : Cond.static y ∈ lw_all) (h4 : Cond.initialized y.cls ∈ lw_all) (h5 : Cond.codeWith y bytes maxL ret' hh ∈ lw_all)
    (hd : cHd y n) (hn : As.length = n) (hR : cRm R rm maxL cells slots) (hrest : (rest.map fun v => v.category).sum ≤ 8) (hls : ls.size = nL) (hst : st = As.reverse ++ rest) (hdg : decode cc pc = .ok (.invokestatic index, 3))
    (kx : cX p l e R s m args below meth c (cells + rm.cells) (slots + rm.slots) Q g px (F0 m pc ls rest)) (kk : cK p l e R s m args below meth c (cells + rm.cells) (slots + rm.slots) Q g post (pc + 3) ls rest) : W p l e R s m args below meth c H locs cells slots Q (F0 m pc ls st) :=
  s_go (vx_runSX (g := F0 m pc ls st) F.1 (hM F.st) (vx_cwSW n F.ts (lw_SW h1 h2 h4 h5) rfl rfl rfl hd hR.1) (s_preS F hW) rfl hn hls hst (lv_room hrest) hdg hR.2) hW kx kk
theorem s_callVW {hh : List (Nat × Nat × Nat × Nat)} (F : Fx g l p s m args meth c cc nL own nm ret tb) (hW : Hl g σ H locs) (hM : CtW g l y bytes maxL ret' hh rm (.ref a :: As) σ post px) (he : σ a = some (.inr (ci, fs))) (hc : vCl[ci]? = some (C, T, N)) (h1 : Cond.methodLink own index y ∈ lw_all) (h2 : Cond.instanceMethod y ∈ lw_all) (h3 : Cond.selects C y y ∈ lw_all) (h4 : Cond.initialized C ∈ lw_all) (h5 : Cond.codeWith y bytes maxL ret' hh ∈ lw_all)
    (hy : y.cls = C) (hd : cHd y n) (hn : As.length = n) (hR : cRm R rm maxL cells slots) (hrest : (rest.map fun v => v.category).sum ≤ 8) (hls : ls.size = nL) (hst : st = As.reverse ++ .ref a :: rest) (hdg : decode cc pc = .ok (.invokevirtual index, 3))
    (kx : cX p l e R s m args below meth c (cells + rm.cells) (slots + rm.slots) Q g px (F0 m pc ls rest)) (kk : cK p l e R s m args below meth c (cells + rm.cells) (slots + rm.slots) Q g post (pc + 3) ls rest) : W p l e R s m args below meth c H locs cells slots Q (F0 m pc ls st) :=
  s_go (vx_runVX (g := F0 m pc ls st) F.1 (hM F.st) (vx_cwVW n F.ts (lw_VW h1 h2 h3 h4 h5) rfl rfl rfl ⟨hy, hd⟩ hR.1) (s_preV F hW he hc) rfl hn hls hst (lv_room hrest) hdg hR.2) hW kx kk
/-- a constructor -/
theorem s_callI (F : Fx g l p s m args meth c cc nL own nm ret tb) (hW : Hl g σ H locs) (hM : Ct g l y bytes maxL none rm (.ref a :: As) σ post px) (h1 : Cond.methodLink own index y ∈ lw_all) (h2 : Cond.instanceMethod y ∈ lw_all) (h4 : Cond.initialized y.cls ∈ lw_all) (h5 : Cond.code y bytes maxL none ∈ lw_all)
    (hy : y.name = "<init>") (hd : cHd y n) (hn : As.length = n) (hR : cRm R rm maxL cells slots) (hrest : (rest.map fun v => v.category).sum ≤ 8) (hls : ls.size = nL) (hst : st = As.reverse ++ .ref a :: rest) (hdg : decode cc pc = .ok (.invokespecial index, 3))
    (kx : cX p l e R s m args below meth c (cells + rm.cells) (slots + rm.slots) Q g px (F0 m pc ls rest)) (kk : cK p l e R s m args below meth c (cells + rm.cells) (slots + rm.slots) Q g post (pc + 3) ls rest) : W p l e R s m args below meth c H locs cells slots Q (F0 m pc ls st) :=
  s_go (vx_runI (g := F0 m pc ls st) F.1 (hM F.st) (cwI n F.ts (lw_meth h5) rfl rfl rfl (F.ts _ h4) (F.ts _ h1) (F.ts _ h2) hy hd hR.1) (s_preS F hW) rfl hn hls hst (lv_room hrest) hdg hR.2) hW kx kk
/-- a private constructor of a nest mate -/
theorem s_callIN {host : String} (F : Fx g l p s m args meth c cc nL own nm ret tb) (hW : Hl g σ H locs) (hM : Ct g l y bytes maxL none rm (.ref a :: As) σ post px) (h1 : Cond.methodLinkNest own index y host ∈ lw_tbl) (h2 : Cond.instanceMethod y ∈ lw_all) (h4 : Cond.initialized y.cls ∈ lw_all) (h5 : Cond.code y bytes maxL none ∈ lw_all)
    (hy : y.name = "<init>") (hd : cHd y n) (hn : As.length = n) (hR : cRm R rm maxL cells slots) (hrest : (rest.map fun v => v.category).sum ≤ 8) (hls : ls.size = nL) (hst : st = As.reverse ++ .ref a :: rest) (hdg : decode cc pc = .ok (.invokespecial index, 3))
    (kx : cX p l e R s m args below meth c (cells + rm.cells) (slots + rm.slots) Q g px (F0 m pc ls rest)) (kk : cK p l e R s m args below meth c (cells + rm.cells) (slots + rm.slots) Q g post (pc + 3) ls rest) : W p l e R s m args below meth c H locs cells slots Q (F0 m pc ls st) :=
  s_go (vx_runIN (g := F0 m pc ls st) F.1 (hM F.st) ⟨va_cnB n F.ts (lw_meth h5) rfl rfl rfl (F.ok.2.2.1 _ _ _ _ h1) (F.ts _ h4) hd hR.1, hy, F.ts _ h2⟩ (s_preS F hW) rfl hn hls hst (lv_room hrest) hdg hR.2) hW kx kk
/-- a private static of a nest mate -/
theorem s_callSN {host : String} (F : Fx g l p s m args meth c cc nL own nm ret tb) (hW : Hl g σ H locs) (hM : Ct g l y bytes maxL ret' rm As σ post px) (h1 : Cond.methodLinkNest own index y host ∈ lw_tbl) (h2 : Cond.static y ∈ lw_all) (h4 : Cond.initialized y.cls ∈ lw_all) (h5 : Cond.code y bytes maxL ret' ∈ lw_all)
    (hd : cHd y n) (hn : As.length = n) (hR : cRm R rm maxL cells slots) (hrest : (rest.map fun v => v.category).sum ≤ 8) (hls : ls.size = nL) (hst : st = As.reverse ++ rest) (hdg : decode cc pc = .ok (.invokestatic index, 3))
    (kx : cX p l e R s m args below meth c (cells + rm.cells) (slots + rm.slots) Q g px (F0 m pc ls rest)) (kk : cK p l e R s m args below meth c (cells + rm.cells) (slots + rm.slots) Q g post (pc + 3) ls rest) : W p l e R s m args below meth c H locs cells slots Q (F0 m pc ls st) :=
  s_go (vx_runSN (g := F0 m pc ls st) F.1 (hM F.st) ⟨va_cnB n F.ts (lw_meth h5) rfl rfl rfl (F.ok.2.2.1 _ _ _ _ h1) (F.ts _ h4) hd hR.1, F.ts _ h2, trivial⟩ (s_preS F hW) rfl hn hls hst (lv_room hrest) hdg hR.2) hW kx kk
theorem s_callVN {host : String} (F : Fx g l p s m args meth c cc nL own nm ret tb) (hW : Hl g σ H locs) (hM : Ct g l y bytes maxL ret' rm (.ref a :: As) σ post px) (he : σ a = some (.inr (ci, fs))) (hc : vCl[ci]? = some (C, T, N)) (h1 : Cond.methodLinkNest own index y host ∈ lw_tbl) (h2 : Cond.instanceMethod y ∈ lw_all) (h3 : Cond.selects C y y ∈ lw_all) (h4 : Cond.initialized y.cls ∈ lw_all) (h5 : Cond.code y bytes maxL ret' ∈ lw_all)
    (hd : cHd y n) (hn : As.length = n) (hR : cRm R rm maxL cells slots) (hrest : (rest.map fun v => v.category).sum ≤ 8) (hls : ls.size = nL) (hst : st = As.reverse ++ .ref a :: rest) (hdg : decode cc pc = .ok (.invokevirtual index, 3))
    (kx : cX p l e R s m args below meth c (cells + rm.cells) (slots + rm.slots) Q g px (F0 m pc ls rest)) (kk : cK p l e R s m args below meth c (cells + rm.cells) (slots + rm.slots) Q g post (pc + 3) ls rest) : W p l e R s m args below meth c H locs cells slots Q (F0 m pc ls st) :=
  s_go (vx_runVN (g := F0 m pc ls st) F.1 (hM F.st) ⟨va_cnB n F.ts (lw_meth h5) rfl rfl rfl (F.ok.2.2.1 _ _ _ _ h1) (F.ts _ h4) hd hR.1, F.ts _ h2, F.ts _ h3⟩ (s_preV F hW he hc) rfl hn hls hst (lv_room hrest) hdg hR.2) hW kx kk
theorem lw_U {own C owner : String} {idx : Nat} {x y : MethodName} {b : ByteArray} {L : Nat} {r : Option FieldType} (h1 : Cond.methodLink own idx x ∈ lw_all) (h2 : Cond.sameMethod x.cls owner x.name x.desc ∈ lw_all) (h3 : Cond.selects C x y ∈ lw_all) (h4 : Cond.instanceMethod y ∈ lw_all) (h5 : Cond.initialized y.cls ∈ lw_all) (h6 : Cond.code y b L r ∈ lw_all) : GoodIn lw_all (va_wsU own idx C owner x y (ws_ y b L r)) := by
  refine lw_app ?_ (lw_meth h6)
  intro w hw
  simp only [List.mem_cons, List.not_mem_nil, or_false] at hw
  rcases hw with e | e | e | e | e
  · rw [e]; exact h1
  · rw [e]; exact h2
  · rw [e]; exact h3
  · rw [e]; exact h4
  · rw [e]; exact h5
/-- an inherited method: named x, found in owner -/
theorem s_callU {owner : String} (F : Fx g l p s m args meth c cc nL own nm ret tb) (hW : Hl g σ H locs) (hM : Ct g l y bytes maxL ret' rm (.ref a :: As) σ post px) (he : σ a = some (.inr (ci, fs))) (hc : vCl[ci]? = some (C, T, N)) (h1 : Cond.methodLink own index x ∈ lw_all) (h2 : Cond.sameMethod x.cls owner x.name x.desc ∈ lw_all) (h3 : Cond.selects C x y ∈ lw_all) (h4 : Cond.instanceMethod y ∈ lw_all) (h5 : Cond.initialized y.cls ∈ lw_all) (h6 : Cond.code y bytes maxL ret' ∈ lw_all)
    (hyx : y = ⟨owner, x.name, x.desc⟩) (hd : owner ≠ "java/lang/invoke/MethodHandle" ∧ owner ≠ "java/lang/invoke/VarHandle" ∧ (parseMethodDescriptor x.desc).map (fun d => d.parameters.length) = some n) (hn : As.length = n) (hR : cRm R rm maxL cells slots) (hrest : (rest.map fun v => v.category).sum ≤ 8) (hls : ls.size = nL) (hst : st = As.reverse ++ .ref a :: rest) (hdg : decode cc pc = .ok (.invokevirtual index, 3))
    (kx : cX p l e R s m args below meth c (cells + rm.cells) (slots + rm.slots) Q g px (F0 m pc ls rest)) (kk : cK p l e R s m args below meth c (cells + rm.cells) (slots + rm.slots) Q g post (pc + 3) ls rest) : W p l e R s m args below meth c H locs cells slots Q (F0 m pc ls st) :=
  s_go (vx_runU (g := F0 m pc ls st) F.1 (hM F.st) (va_cwU n F.ts (lw_U h1 h2 h3 h4 h5 h6) rfl rfl rfl hyx hd hR.1) (s_preV F hW he hc) rfl hn hls hst (lv_room hrest) hdg hR.2) hW kx kk
/-- a call whose named method is abstract -/
theorem s_callA {owner : String} (F : Fx g l p s m args meth c cc nL own nm ret tb) (hW : Hl g σ H locs) (hM : Ct g l y bytes maxL ret' rm (.ref a :: As) σ post px) (he : σ a = some (.inr (ci, fs))) (hc : vCl[ci]? = some (C, T, N)) (h1 : Cond.methodLink own index x ∈ lw_all) (h2 : Cond.sameMethod x.cls owner x.name x.desc ∈ lw_all) (h3 : Cond.selects C x y ∈ lw_all) (h4 : Cond.instanceMethod y ∈ lw_all) (h5 : Cond.initialized y.cls ∈ lw_all) (h6 : Cond.code y bytes maxL ret' ∈ lw_all)
    (hz : Cond.declares ⟨owner, x.name, x.desc⟩ ∈ lw_tbl) (hd : owner ≠ "java/lang/invoke/MethodHandle" ∧ owner ≠ "java/lang/invoke/VarHandle" ∧ (parseMethodDescriptor x.desc).map (fun d => d.parameters.length) = some n) (hn : As.length = n) (hR : cRm R rm maxL cells slots) (hrest : (rest.map fun v => v.category).sum ≤ 8) (hls : ls.size = nL) (hst : st = As.reverse ++ .ref a :: rest) (hdg : decode cc pc = .ok (.invokevirtual index, 3))
    (kx : cX p l e R s m args below meth c (cells + rm.cells) (slots + rm.slots) Q g px (F0 m pc ls rest)) (kk : cK p l e R s m args below meth c (cells + rm.cells) (slots + rm.slots) Q g post (pc + 3) ls rest) : W p l e R s m args below meth c H locs cells slots Q (F0 m pc ls st) :=
  s_go (vx_runU (g := F0 m pc ls st) F.1 (hM F.st) (va_cwA n F.ts (lw_U h1 h2 h3 h4 h5 h6) rfl rfl rfl (F.ok.2.2.2.2.1 _ hz) hd hR.1) (s_preV F hW he hc) rfl hn hls hst (lv_room hrest) hdg hR.2) hW kx kk
theorem lw_F {own C : String} {idx : Nat} {x y : MethodName} {b : ByteArray} {L : Nat} {r : Option FieldType} (h1 : Cond.methodLink own idx x ∈ lw_all) (h3 : Cond.selects C x y ∈ lw_all) (h4 : Cond.instanceMethod y ∈ lw_all) (h5 : Cond.initialized y.cls ∈ lw_all) (h6 : Cond.code y b L r ∈ lw_all) : GoodIn lw_all (va_wsF own idx C x y (ws_ y b L r)) := by
  refine lw_app ?_ (lw_meth h6)
  intro w hw
  simp only [List.mem_cons, List.not_mem_nil, or_false] at hw
  rcases hw with e | e | e | e
  · rw [e]; exact h1
  · rw [e]; exact h3
  · rw [e]; exact h4
  · rw [e]; exact h5
/-- invokeinterface -/
theorem s_callF {count : Nat} (F : Fx g l p s m args meth c cc nL own nm ret tb) (hW : Hl g σ H locs) (hM : Ct g l y bytes maxL ret' rm (.ref a :: As) σ post px) (he : σ a = some (.inr (ci, fs))) (hc : vCl[ci]? = some (C, T, N)) (hI : (C, x, y) ∈ nwI) (h1 : Cond.methodLink own index x ∈ lw_all) (h3 : Cond.selects C x y ∈ lw_all) (h4 : Cond.instanceMethod y ∈ lw_all) (h5 : Cond.initialized y.cls ∈ lw_all) (h6 : Cond.code y bytes maxL ret' ∈ lw_all)
    (hd : cHd x n) (hn : As.length = n) (hR : cRm R rm maxL cells slots) (hrest : (rest.map fun v => v.category).sum ≤ 8) (hls : ls.size = nL) (hst : st = As.reverse ++ .ref a :: rest) (hdg : decode cc pc = .ok (.invokeinterface index count, 5))
    (kx : cX p l e R s m args below meth c (cells + rm.cells) (slots + rm.slots) Q g px (F0 m pc ls rest)) (kk : cK p l e R s m args below meth c (cells + rm.cells) (slots + rm.slots) Q g post (pc + 5) ls rest) : W p l e R s m args below meth c H locs cells slots Q (F0 m pc ls st) :=
  s_go5 (vx_runF (g := F0 m pc ls st) (s_kn F hc).2 F.1 (hM F.st) (va_cwF n F.ts (lw_F h1 h3 h4 h5 h6) rfl rfl rfl (F.ok.2.2.2.2.2.1 _ hI) hd hR.1) (s_preV F hW he hc) rfl hn hls hst (lv_room hrest) hdg hR.2) hW kx kk
/-! answers -/
theorem s_ret {g9 : JFrame} {mc ms : Nat} (h1 : cells ≤ mc) (h2 : slots ≤ ms) {Qc : Array Value → State → Outcome → State → Prop} {XC : Addr → String → State → State → Prop} {free : Addr → Prop} (k : W p l e R s m args below meth c H locs mc ms (MQ below Qc args s mc ms free) g9) : W p l e R s m args below meth c H locs cells slots (vx_MQ below Qc XC args s mc ms free) g9 := W.widen h1 h2 (vx_ret k)
theorem s_reti {mc ms : Nat} {v : Int32} {ty : FieldType} (F : Fx g l p s m args meth c cc nL own nm (some ty) tb) (hW : Hl g σ H locs) (hn : narrow ty (.int v) = .int v) (hp : post (some (.int v)) σ) (h : cells ≤ mc ∧ slots ≤ ms) (hdg : decode cc pc = .ok (.ireturn, 1)) : W p l e R s m args below meth c H locs cells slots (vx_MQ below (CQ g post) (CX g px) args s mc ms (gF g)) (F0 m pc ls [.int v]) :=
  s_ret h.1 h.2 (W.zret F.x F.cd F.rt hn (fun t ht _ => ⟨_, σ, rfl, hp, by rw [ht]; exact hW.1⟩) hW.2 hdg F.lk)
theorem s_retv {mc ms : Nat} (F : Fx g l p s m args meth c cc nL own nm none tb) (hW : Hl g σ H locs) (hp : post none σ) (h : cells ≤ mc ∧ slots ≤ ms) (hdg : decode cc pc = .ok (.return_, 1)) : W p l e R s m args below meth c H locs cells slots (vx_MQ below (CQ g post) (CX g px) args s mc ms (gF g)) (F0 m pc ls []) :=
  s_ret h.1 h.2 (W.vret F.x F.cd F.rt (fun t ht _ => ⟨_, σ, rfl, hp, by rw [ht]; exact hW.1⟩) hW.2 hdg F.lk)
theorem s_retl {mc ms : Nat} {v : Int64} (F : Fx g l p s m args meth c cc nL own nm (some .long) tb) (hW : Hl g σ H locs) (hp : post (some (.long v)) σ) (h : cells ≤ mc ∧ slots ≤ ms) (hdg : decode cc pc = .ok (.lreturn, 1)) : W p l e R s m args below meth c H locs cells slots (vx_MQ below (CQ g post) (CX g px) args s mc ms (gF g)) (F0 m pc ls [.long v]) :=
  s_ret h.1 h.2 (W.lret F.x F.cd F.rt (fun t ht _ => ⟨_, σ, rfl, hp, by rw [ht]; exact hW.1⟩) hW.2 hdg F.lk)
theorem s_retf {mc ms : Nat} {v : UInt32} (F : Fx g l p s m args meth c cc nL own nm (some .float) tb) (hW : Hl g σ H locs) (hp : post (some (.float v)) σ) (h : cells ≤ mc ∧ slots ≤ ms) (hdg : decode cc pc = .ok (.freturn, 1)) : W p l e R s m args below meth c H locs cells slots (vx_MQ below (CQ g post) (CX g px) args s mc ms (gF g)) (F0 m pc ls [.float v]) :=
  s_ret h.1 h.2 (W.fret F.x F.cd F.rt (fun t ht _ => ⟨_, σ, rfl, hp, by rw [ht]; exact hW.1⟩) hW.2 hdg F.lk)
theorem s_retd {mc ms : Nat} {v : UInt64} (F : Fx g l p s m args meth c cc nL own nm (some .double) tb) (hW : Hl g σ H locs) (hp : post (some (.double v)) σ) (h : cells ≤ mc ∧ slots ≤ ms) (hdg : decode cc pc = .ok (.dreturn, 1)) : W p l e R s m args below meth c H locs cells slots (vx_MQ below (CQ g post) (CX g px) args s mc ms (gF g)) (F0 m pc ls [.double v]) :=
  s_ret h.1 h.2 (W.dret F.x F.cd F.rt (fun t ht _ => ⟨_, σ, rfl, hp, by rw [ht]; exact hW.1⟩) hW.2 hdg F.lk)
theorem s_reta {mc ms : Nat} {v : Value} {rt : FieldType} (F : Fx g l p s m args meth c cc nL own nm (some rt) tb) (hW : Hl g σ H locs) (hrt : (∃ n, rt = .object n) ∨ ∃ t, rt = .array t) (hv : v = .null ∨ ∃ a, v = .ref a) (hp : post (some v) σ) (h : cells ≤ mc ∧ slots ≤ ms) (hdg : decode cc pc = .ok (.areturn, 1)) : W p l e R s m args below meth c H locs cells slots (vx_MQ below (CQ g post) (CX g px) args s mc ms (gF g)) (F0 m pc ls [v]) :=
  s_ret h.1 h.2 (W.aret F.x F.cd F.rt hrt hv (fun t ht _ => ⟨_, σ, rfl, hp, by rw [ht]; exact hW.1⟩) hW.2 hdg F.lk)
/-! statics, texts -/
theorem s_gets (F : Fx g l p s m args meth c cc nL own nm ret tb) (hW : Hl g σ H locs) {C n d ref : String} {v : Value} {index : Nat} (hz : (C, n, d, v) ∈ gSt g) (hlink : Cond.fieldLink own index ref n d ∈ lw_all) (hsame : ∀ x, s.fieldFound? C n d = some x → s.fieldFound? ref n d = some x) (hdg : decode cc pc = .ok (.getstatic index, 3))
    (kk : W p l e R s m args below meth c H locs cells slots Q (F0 m (pc + 3) ls (v :: rest))) : W p l e R s m args below meth c H locs cells slots Q (F0 m pc ls rest) := by
  obtain ⟨cf, kf, fi, f, a1, cell, h1, h2, h3, h4, h5, h6, h7, h8⟩ := F.ok.2.2.2.2.2.2.2.2.1 _ hz
  exact W.gets F.x F.cd F.ow (F.ts _ hlink) (hsame _ h1) h2 h3 h4 (by rw [hW.1.2.2.1 a1 (Nat.lt_of_not_le h8)]; exact h5) (fun h => by rw [h] at h6; cases h6) h7 rfl hdg kk
theorem s_getsN (F : Fx g l p s m args meth c cc nL own nm ret tb) (hW : Hl g σ H locs) {C n d ref host : String} {v : Value} {index : Nat} (hz : (C, n, d, v) ∈ gSt g) (hlink : Cond.fieldLinkNest own index ref n d host ∈ lw_tbl) (hsame : ∀ x, s.fieldFound? C n d = some x → s.fieldFound? ref n d = some x) (hdg : decode cc pc = .ok (.getstatic index, 3))
    (kk : W p l e R s m args below meth c H locs cells slots Q (F0 m (pc + 3) ls (v :: rest))) : W p l e R s m args below meth c H locs cells slots Q (F0 m pc ls rest) := by
  obtain ⟨cf, kf, fi, f, a1, cell, h1, h2, h3, h4, h5, h6, h7, h8⟩ := F.ok.2.2.2.2.2.2.2.2.1 _ hz
  exact va_WgetsN F.x F.cd F.ow (va_Nw.use rfl (F.ok.2.1 _ _ _ _ _ _ hlink)) (hsame _ h1) h2 h3 h4 (by rw [hW.1.2.2.1 a1 (Nat.lt_of_not_le h8)]; exact h5) (fun h => by rw [h] at h6; cases h6) h7 rfl hdg kk
/-- the formatter of Preconditions: null or some reference -/
theorem s_getsQ (F : Fx g l p s m args meth c cc nL own nm ret tb) (hW : Hl g σ H locs) {index : Nat} (hlink : Cond.fieldLink own index "jdk/internal/util/Preconditions" "SIOOBE_FORMATTER" "Ljava/util/function/BiFunction;" ∈ lw_all) (hdg : decode cc pc = .ok (.getstatic index, 3))
    (kk : ∀ v : Value, v = .null ∨ (∃ a, v = .ref a) → W p l e R s m args below meth c H locs cells slots Q (F0 m (pc + 3) ls (v :: rest))) : W p l e R s m args below meth c H locs cells slots Q (F0 m pc ls rest) := by
  have key : ∀ v, va_Z "jdk/internal/util/Preconditions" "SIOOBE_FORMATTER" "Ljava/util/function/BiFunction;" v (gOld g) s (gH g) → W p l e R s m args below meth c H locs cells slots Q (F0 m (pc + 3) ls (v :: rest)) → W p l e R s m args below meth c H locs cells slots Q (F0 m pc ls rest) := by
    intro v hz k
    obtain ⟨cf, kf, fi, f, a1, cell, h1, h2, h3, h4, h5, h6, h7, h8⟩ := hz
    exact W.gets F.x F.cd F.ow (F.ts _ hlink) h1 h2 h3 h4 (by rw [hW.1.2.2.1 a1 (Nat.lt_of_not_le h8)]; exact h5) (fun h => by rw [h] at h6; cases h6) h7 rfl hdg k
  rcases F.ok.2.2.2.2.2.2.2.2.2.2.1 with h | ⟨t, h⟩
  · exact key _ h (kk _ (Or.inl rfl))
  · exact key _ h (kk _ (Or.inr ⟨t, rfl⟩))
theorem s_ldcS (F : Fx g l p s m args meth c cc nL own nm ret tb) {tx : String} {index : Nat} (hm : Cond.stringRef own index tx ∈ lw_tbl) (hdg : decode cc pc = .ok (.ldc index, 2))
    (kk : W p l e R s m args below meth c H locs cells slots Q (F0 m (pc + 2) ls (.ref (gS g own index) :: rest))) : W p l e R s m args below meth c H locs cells slots Q (F0 m pc ls rest) :=
  va_ldcS F.x F.cd F.ow (F.ok.2.2.2.2.2.2.2.1 _ _ _ hm) hdg kk
/-- a literal's cell, in any store of a run -/
theorem s_lit (F : Fx g l p s m args meth c cc nL own nm ret tb) (hW : Hl g σ H locs) {w tx : String} {index : Nat} (hm : Cond.stringRef w index tx ∈ lw_tbl) : IsStr g σ (gS g w index) (tN tx) := by
  obtain ⟨v, h, z, h1, h2, h3, h4⟩ := F.cs.1 _ _ _ hm
  exact ⟨v, h, z, hW.1.old F.cs h1, Or.inr h2, hW.1.old F.cs h3, h4⟩
theorem s_litC (F : Fx g l p s m args meth c cc nL own nm ret tb) (hW : Hl g σ H locs) {w tx : String} {index : Nat} (hm : Cond.stringRef w index tx ∈ lw_tbl) : IsStrC g σ (gS g w index) (tN tx) := by
  obtain ⟨v, h, z, h1, h2, h3, h4⟩ := F.cs.1 _ _ _ hm
  exact ⟨v, h, z, hW.1.old F.cs h1, h2, hW.1.old F.cs h3, h4⟩
/-! casts -/
theorem s_cast_ (F : Fx g l p s m args meth c cc nL own nm ret tb) (hW : Hl g σ H locs) (he : σ a = some (.inr (ci, fs))) (hc : vCl[ci]? = some (C, T, N)) {index : Nat} (hlink : Cond.classLink own index C ∈ lw_all) (hdg : decode cc pc = .ok (.checkcast index, 3))
    (kk : W p l e R s m args below meth c H locs cells slots Q (F0 m (pc + 3) ls (.ref a :: rest))) : W p l e R s m args below meth c H locs cells slots Q (F0 m pc ls (.ref a :: rest)) :=
  va_castE F.x F.cd F.ow (F.ts _ hlink) (s_recv F hW he hc) hdg kk
theorem s_castY (F : Fx g l p s m args meth c cc nL own nm ret tb) (hW : Hl g σ H locs) (he : σ a = some (.inr (ci, fs))) (hc : vCl[ci]? = some (C, T, N)) {index : Nat} {C2 : String} (hlink : Cond.classLink own index C2 ∈ lw_all) (hcs : Cond.castable C C2 ∈ lw_tbl) (hdg : decode cc pc = .ok (.checkcast index, 3))
    (kk : W p l e R s m args below meth c H locs cells slots Q (F0 m (pc + 3) ls (.ref a :: rest))) : W p l e R s m args below meth c H locs cells slots Q (F0 m pc ls (.ref a :: rest)) :=
  va_castY F.x F.cd F.ow (F.ts _ hlink) (F.ok.2.2.2.1 _ _ hcs) (s_recv F hW he hc) hdg kk
theorem s_inst (F : Fx g l p s m args meth c cc nL own nm ret tb) (hW : Hl g σ H locs) (he : σ a = some (.inr (ci, fs))) (hc : vCl[ci]? = some (C, T, N)) {index : Nat} (hlink : Cond.classLink own index C ∈ lw_all) (hdg : decode cc pc = .ok (.instanceof index, 3))
    (kk : W p l e R s m args below meth c H locs cells slots Q (F0 m (pc + 3) ls (.int 1 :: rest))) : W p l e R s m args below meth c H locs cells slots Q (F0 m pc ls (.ref a :: rest)) :=
  va_instE F.x F.cd F.ow (F.ts _ hlink) (s_recv F hW he hc) hdg kk
/-! throws -/
/-- out of a body without handlers -/
theorem s_out {mc ms q : Nat} {E : String} (F : Fx g l p s m args meth c cc nL own nm ret []) (hW : Hl g σ H locs) (hT : Tx s H q E) (hp : px q E σ) (h : cells ≤ mc ∧ slots ≤ ms) : vx_W p l e R s m args below meth c H locs cells slots (vx_MQ below (CQ g post) (CX g px) args s mc ms (gF g)) (F0 m pc ls rest) q := by
  obtain ⟨ce, h1, h2, h3⟩ := hT
  exact vx_out (fun x hx => by rw [F.et] at hx; cases hx) F.lk h1 h2 h3 (fun t ht _ => ⟨σ, hp, by rw [ht]; exact hW.1⟩) hW.2 h.1 h.2
/-- a callee's exception goes on to the caller -/
theorem cX_out {px' : Addr → String → Sto → Prop} {post' : Option Value → Sto → Prop} {mc ms : Nat} (F : Fx g l p s m args meth c cc nL own nm ret []) (h : cells ≤ mc ∧ slots ≤ ms) (hp : ∀ q E σ', px' q E σ' → px q E σ') : cX p l e R s m args below meth c cells slots (vx_MQ below (CQ g post') (CX g px) args s mc ms (gF g)) g px' (F0 m pc ls rest) :=
  fun E q9 σ' H1 locs1 h1 hW hT => s_out F hW hT (hp _ E σ' h1) h
theorem s_athrow {q : Nat} (F : Fx g l p s m args meth c cc nL own nm ret tb) (hdg : decode cc pc = .ok (.athrow, 1)) (k : vx_W p l e R s m args below meth c H locs cells slots Q (F0 m pc ls rest) q) : W p l e R s m args below meth c H locs cells slots Q (F0 m pc ls (.ref q :: rest)) := vx_athrow F.x F.cd hdg k
theorem s_tx (F : Fx g l p s m args meth c cc nL own nm ret tb) (hW : Hl g σ H locs) (he : σ a = some (.inr (ci, fs))) (hb : gB g ≤ a) (hc : vCl[ci]? = some (C, T, N)) : Tx s H a C := by
  obtain ⟨cell, q1, q2, -, q4, r, h1, h2, -⟩ := hW.1.1 a _ he
  exact ⟨cell, q1, (q4 hb).1, by rw [h2]; exact (s_kn F hc).2.1⟩
/-! System.arraycopy -/
theorem s_nn : ∀ z : Int32, ¬ z < 0 → z.toInt = (z.toNatClampNeg : Int) := by
  intro z hz
  have hz0 : (0 : Int) ≤ z.toInt := by
    have := Int32.not_lt.mp hz
    simpa using Int32.le_iff_toInt_le.mp this
  show z.toInt = ((z.toInt.toNat : Nat) : Int)
  omega
theorem s_copyb (F : Fx g l p s m args meth c cc nL own nm ret tb) (hW : Hl g σ H locs) {index : Nat} (hlink : Cond.methodLink own index arraycopyName ∈ lw_all) (hnat : Cond.native arraycopyName ∈ lw_all) (hstat : Cond.static arraycopyName ∈ lw_all) (hini : Cond.initialized "java/lang/System" ∈ lw_all)
    {a0 n0 n1 : Nat} {f f1 : Nat → Int32} (he0 : σ a0 = some (eI g 1 n0 f)) (he1 : σ a = some (eI g 1 n1 f1)) (hb0 : gB g ≤ a) {sp dp n : Int32} (h1 : ¬ sp < 0) (h2 : ¬ dp < 0) (h3 : ¬ n < 0) (h4 : sp.toNatClampNeg + n.toNatClampNeg ≤ n0) (h5 : dp.toNatClampNeg + n.toNatClampNeg ≤ n1) (hfit : ∀ i, i < n.toNatClampNeg → fits .byte (.int (f (sp.toNatClampNeg + i))) = true)
    (hls : ls.size = nL) (hframes : 1 ≤ R.frames) (hlocals : (rest.map fun v => v.category).sum + (nativeFrameWords "java/lang/System" "arraycopy" 5 + 11) ≤ R.locals) (hdg : decode cc pc = .ok (.invokestatic index, 3))
    (kk : ∀ (H1 : Heap) (locs1 : List Loc), Hl g (sset σ a (eI g 1 n1 (va_cpy f f1 sp.toNatClampNeg dp.toNatClampNeg n.toNatClampNeg))) H1 locs1 → W p l e R s m args below meth c H1 locs1 cells slots Q (F0 m (pc + 3) ls rest)) : W p l e R s m args below meth c H locs cells slots Q (F0 m pc ls (.int n :: .int dp :: .ref a :: .int sp :: .ref a0 :: rest)) := by
  intro T hT X
  obtain ⟨c0, b1, b2, b3, -, b4, b5, -⟩ := hW.1.1 a0 _ he0
  obtain ⟨c1, d1, d2, d3, -, d4, d5, d6⟩ := hW.1.1 a _ he1
  have d7 := d6 hb0
  subst d7
  have hA := (s_arr F (k := 1) rfl).1
  obtain ⟨-, k0, hk0, cm0, hkk0⟩ := s_isArr hA b4 b2
  obtain ⟨-, k1, hk1, cm1, hkk1⟩ := s_isArr hA d4 d2
  have hs5 : ∀ j, j < n0 → c0.slots[j]? = some (.int (f j)) := fun j hj => by rw [b5, vp_cell_i, arrV_read _ _ hj]
  obtain ⟨vm', X', step⟩ := X.arraycopy F.x F.ow (F.ts _ hlink) (F.ts _ hnat) (F.ts _ hstat) (F.ts _ hini) (src := a0) (dst := a) (cs := c0) (cd := vp_cell (gT g 1) (n1, .inl f1)) (srcPos := sp) (destPos := dp) (n := n) (by rw [hT]; exact b1) (by rw [hT]; exact d1)
    (fun _ h => by rw [h] at b2; cases b2) (fun _ h => by cases h) b3 (fun h => by cases h) hk0 hk1 hkk0 hkk1 (by simp [refKind]) h1 h2 h3
    (by rw [s_nn sp h1, s_nn n h3, s_slots b5]; dsimp only; omega)
    (by rw [s_nn dp h2, s_nn n h3, s_slots d5]; dsimp only; omega)
    (fun vm₁ _ i hi => by
      have e : c0.slots.getD (sp.toNatClampNeg + i) .null = .int (f (sp.toNatClampNeg + i)) := by
        rw [Array.getD_eq_getD_getElem?, hs5 _ (by omega)]
        rfl
      refine ⟨?_, ?_⟩
      · rw [e]
        exact hfit i hi
      · rw [e]
        exact trivial)
    (g := F0 m pc ls (.int n :: .int dp :: .ref a :: .int sp :: .ref a0 :: rest)) rfl (by rw [F.ml]; exact hls) (rest := rest) rfl (by rw [F.cd]; exact hdg) hframes (by show 2 * 0 + _ + _ ≤ _; omega)
  have e1 : copied c0 (vp_cell (gT g 1) (n1, .inl f1)) sp dp n = vp_cell (gT g 1) (n1, .inl (va_cpy f f1 sp.toNatClampNeg dp.toNatClampNeg n.toNatClampNeg)) := va_copiedX (fun z => .int z) c0 (gT g 1) f f1 hs5 h4
  rw [e1] at X' step
  have hl : a < H.size := (Array.getElem?_eq_some_iff.mp d1).1
  have hheap : ((T.setVm vm').setCell a (vp_cell (gT g 1) (n1, .inl (va_cpy f f1 sp.toNatClampNeg dp.toNatClampNeg n.toNatClampNeg)))).heap = H.setIfInBounds a (vp_cell (gT g 1) (n1, .inl (va_cpy f f1 sp.toNatClampNeg dp.toNatClampNeg n.toNatClampNeg))) := by rw [← hT]; rfl
  have oq : ∀ q : Nat, q ≠ a → (H.setIfInBounds a (vp_cell (gT g 1) (n1, .inl (va_cpy f f1 sp.toNatClampNeg dp.toNatClampNeg n.toNatClampNeg))))[q]? = H[q]? := fun q hq => by simp [Array.getElem?_setIfInBounds, Ne.symm hq]
  obtain ⟨t, a1, b1⟩ := kk _ _ (hW.lL (L := _) (fun q h => by
      obtain ⟨z, -, hz⟩ := List.mem_map.mp h
      rw [← hz]
      exact hb0) (hW.1.set hb0 (by simp) oq (s_newAt (vp_cell_i _ _ _) (by rw [← vp_cell_i]; simp [Array.getElem?_setIfInBounds, hl])))) _ hheap X'
  exact ⟨t, step t a1, b1⟩
/-- .. of references between Object[] -/
theorem s_copyq (F : Fx g l p s m args meth c cc nL own nm ret tb) (hW : Hl g σ H locs) {index : Nat} (hlink : Cond.methodLink own index arraycopyName ∈ lw_all) (hnat : Cond.native arraycopyName ∈ lw_all) (hstat : Cond.static arraycopyName ∈ lw_all) (hini : Cond.initialized "java/lang/System" ∈ lw_all)
    {a0 n0 n1 : Nat} {f f1 : Nat → Option Nat} (he0 : σ a0 = some (eR g n0 f)) (he1 : σ a = some (eR g n1 f1)) (hb0 : gB g ≤ a) {sp dp n : Int32} (h1 : ¬ sp < 0) (h2 : ¬ dp < 0) (h3 : ¬ n < 0) (h4 : sp.toNatClampNeg + n.toNatClampNeg ≤ n0) (h5 : dp.toNatClampNeg + n.toNatClampNeg ≤ n1)
    (hel : ∀ i, i < n.toNatClampNeg → ∀ y : Nat, f (sp.toNatClampNeg + i) = some y → ∃ (ci : Nat) (vs : List Value) (r : vw_C), σ y = some (.inr (ci, vs)) ∧ vCl[ci]? = some r ∧ Cond.castable r.1 "java/lang/Object" ∈ lw_tbl)
    (hls : ls.size = nL) (hframes : 1 ≤ R.frames) (hlocals : (rest.map fun v => v.category).sum + (nativeFrameWords "java/lang/System" "arraycopy" 5 + 11) ≤ R.locals) (hdg : decode cc pc = .ok (.invokestatic index, 3))
    (kk : ∀ (H1 : Heap) (locs1 : List Loc), Hl g (sset σ a (eR g n1 (va_cpy f f1 sp.toNatClampNeg dp.toNatClampNeg n.toNatClampNeg))) H1 locs1 → W p l e R s m args below meth c H1 locs1 cells slots Q (F0 m (pc + 3) ls rest)) : W p l e R s m args below meth c H locs cells slots Q (F0 m pc ls (.int n :: .int dp :: .ref a :: .int sp :: .ref a0 :: rest)) := by
  intro T hT X
  obtain ⟨c0, b1, b2, b3, -, b4, b5, -⟩ := hW.1.1 a0 _ he0
  obtain ⟨c1, d1, d2, d3, -, d4, d5, d6⟩ := hW.1.1 a _ he1
  have d7 := d6 hb0
  subst d7
  have hA := (s_arr F (k := 6) rfl).1
  obtain ⟨-, k0, hk0, cm0, hkk0⟩ := s_isArr hA b4 b2
  obtain ⟨-, k1, hk1, cm1, hkk1⟩ := s_isArr hA d4 d2
  have hs5 : ∀ j, j < n0 → c0.slots[j]? = some (va_rf (f j)) := fun j hj => by rw [b5, vp_cell_q, arrV_read _ _ hj]
  obtain ⟨kA, comp, r1, r2, r3, -⟩ := (s_arr F (k := 6) rfl).2
  obtain ⟨vm', X', step⟩ := X.arraycopy F.x F.ow (F.ts _ hlink) (F.ts _ hnat) (F.ts _ hstat) (F.ts _ hini) (src := a0) (dst := a) (cs := c0) (cd := vp_cell (gT g 6) (n1, .inr (.inr (.inr (.inr f1))))) (srcPos := sp) (destPos := dp) (n := n) (by rw [hT]; exact b1) (by rw [hT]; exact d1)
    (fun _ h => by rw [h] at b2; cases b2) (fun _ h => by cases h) b3 (fun h => by cases h) hk0 hk1 hkk0 hkk1 rfl h1 h2 h3
    (by rw [s_nn sp h1, s_nn n h3, s_slots b5]; dsimp only; omega)
    (by rw [s_nn dp h2, s_nn n h3, s_slots d5]; dsimp only; omega)
    (fun vm₁ hal i hi => by
      have e : c0.slots.getD (sp.toNatClampNeg + i) .null = va_rf (f (sp.toNatClampNeg + i)) := by
        rw [Array.getD_eq_getD_getElem?, hs5 _ (by omega)]
        rfl
      rw [e]
      cases hy : f (sp.toNatClampNeg + i) with
      | none => exact ⟨rfl, trivial⟩
      | some y =>
        obtain ⟨ci9, vs9, r9, m1, m2, m3⟩ := hel i hi y hy
        obtain ⟨cellV, g1, g2, g3⟩ := s_recv F (C := r9.1) (T := r9.2.1) (N := r9.2.2) hW m1 m2
        obtain ⟨c3, c4, hc3, hc4, hasg⟩ := Cond.castable_spec (args := args) (va_Nw.use rfl (F.ok.2.2.2.1 _ _ m3))
        cases Option.some.inj (hc3.symm.trans g3)
        cases Option.some.inj (hc4.symm.trans r3)
        cases hk1.symm.trans r1
        cases hkk1.symm.trans r2
        obtain ⟨kC, hkC, -⟩ := Vm.findClass_spec g3
        obtain ⟨kE, hkE, -⟩ := Vm.findClass_spec r3
        obtain ⟨kC', hkC', -⟩ := hal.2.2 _ _ hkC
        obtain ⟨kE', hkE', -⟩ := hal.2.2 _ _ hkE
        refine ⟨rfl, cellV, (show T.heap[y]? = some cellV by rw [hT]; exact g1), (fun q h => by rw [h] at g2; cases g2), ⟨kC', hkC'⟩, ?_, ?_⟩
        · exact ⟨kE', hkE'⟩
        · show vm₁.assignable _ _ = true
          rw [hal.assignable]
          exact hasg)
    (g := F0 m pc ls (.int n :: .int dp :: .ref a :: .int sp :: .ref a0 :: rest)) rfl (by rw [F.ml]; exact hls) (rest := rest) rfl (by rw [F.cd]; exact hdg) hframes (by show 2 * 0 + _ + _ ≤ _; omega)
  have e1 : copied c0 (vp_cell (gT g 6) (n1, .inr (.inr (.inr (.inr f1))))) sp dp n = vp_cell (gT g 6) (n1, .inr (.inr (.inr (.inr (va_cpy f f1 sp.toNatClampNeg dp.toNatClampNeg n.toNatClampNeg))))) := by
    rw [vp_cell_q, vp_cell_q]
    exact va_copiedX (fun z => va_rf z) c0 (gT g 6) f f1 hs5 h4
  rw [e1] at X' step
  have hl : a < H.size := (Array.getElem?_eq_some_iff.mp d1).1
  have hheap : ((T.setVm vm').setCell a (vp_cell (gT g 6) (n1, .inr (.inr (.inr (.inr (va_cpy f f1 sp.toNatClampNeg dp.toNatClampNeg n.toNatClampNeg))))))).heap = H.setIfInBounds a (vp_cell (gT g 6) (n1, .inr (.inr (.inr (.inr (va_cpy f f1 sp.toNatClampNeg dp.toNatClampNeg n.toNatClampNeg)))))) := by rw [← hT]; rfl
  have oq : ∀ q : Nat, q ≠ a → (H.setIfInBounds a (vp_cell (gT g 6) (n1, .inr (.inr (.inr (.inr (va_cpy f f1 sp.toNatClampNeg dp.toNatClampNeg n.toNatClampNeg)))))))[q]? = H[q]? := fun q hq => by simp [Array.getElem?_setIfInBounds, Ne.symm hq]
  obtain ⟨t, a1, b1⟩ := kk _ _ (hW.lL (L := _) (fun q h => by
      obtain ⟨z, -, hz⟩ := List.mem_map.mp h
      rw [← hz]
      exact hb0) (hW.1.set hb0 (by simp) oq (s_newAt (vp_cell_q _ _ _) (by rw [← vp_cell_q]; simp [Array.getElem?_setIfInBounds, hl])))) _ hheap X'
  exact ⟨t, step t a1, b1⟩
end SC
