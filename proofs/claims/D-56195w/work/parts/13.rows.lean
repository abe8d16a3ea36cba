/-! ===== rows with named results; ints that are naturals (nI n), ints that are booleans (bI b) ===== -/
set_option maxRecDepth 100000
def bI (b : Bool) : Int32 := if b then 1 else 0
theorem bI_t : bI true = 1 := rfl
theorem bI_f : bI false = 0 := rfl
abbrev eN (g : Gh) (k n : Nat) (f : Nat → Nat) : va_E := eI g k n (fun j => nI (f j))
theorem upd_nI (f : Nat → Nat) (i x : Nat) : upd (fun j => nI (f j)) i (nI x) = fun j => nI (va_up f i x j) := by
  funext j
  by_cases h : j = i <;> simp [upd, va_up, h]
section NR
variable {g : Gh} {l : Launch} {p : Program} {e : Env} {R : Room} {s : State} {m : MethodId} {args : Array Value} {below : List Frame} {meth : Method} {c : Code} {H : Heap} {locs : List Loc} {cells slots : Nat} {Q : State → Prop}
variable {cc : ByteArray} {nL : Nat} {own nm : String} {ret : Option FieldType} {tb : List ExceptionTableEntry} {pc : Nat} {ls : Array Slot} {rest st : List Value} {σ : Sto} {a : Nat}
theorem a_iadd (F : Fx g l p s m args meth c cc nL own nm ret tb) {x y v : Int32} (hv : x + y = v) (hdg : decode cc pc = .ok (.iadd, 1)) (k : W p l e R s m args below meth c H locs cells slots Q (F0 m (pc + 1) ls (.int v :: rest))) : W p l e R s m args below meth c H locs cells slots Q (F0 m (pc) ls (.int y :: .int x :: rest)) := by
  subst hv
  exact lv_iadd F.x F.cd hdg k
theorem a_isub (F : Fx g l p s m args meth c cc nL own nm ret tb) {x y v : Int32} (hv : x - y = v) (hdg : decode cc pc = .ok (.isub, 1)) (k : W p l e R s m args below meth c H locs cells slots Q (F0 m (pc + 1) ls (.int v :: rest))) : W p l e R s m args below meth c H locs cells slots Q (F0 m (pc) ls (.int y :: .int x :: rest)) := by
  subst hv
  exact lv_isub F.x F.cd hdg k
theorem a_imul (F : Fx g l p s m args meth c cc nL own nm ret tb) {x y v : Int32} (hv : x * y = v) (hdg : decode cc pc = .ok (.imul, 1)) (k : W p l e R s m args below meth c H locs cells slots Q (F0 m (pc + 1) ls (.int v :: rest))) : W p l e R s m args below meth c H locs cells slots Q (F0 m (pc) ls (.int y :: .int x :: rest)) := by
  subst hv
  exact lv_imul F.x F.cd hdg k
theorem a_iand (F : Fx g l p s m args meth c cc nL own nm ret tb) {x y v : Int32} (hv : x &&& y = v) (hdg : decode cc pc = .ok (.iand, 1)) (k : W p l e R s m args below meth c H locs cells slots Q (F0 m (pc + 1) ls (.int v :: rest))) : W p l e R s m args below meth c H locs cells slots Q (F0 m (pc) ls (.int y :: .int x :: rest)) := by
  subst hv
  exact lv_iand F.x F.cd hdg k
theorem a_ior (F : Fx g l p s m args meth c cc nL own nm ret tb) {x y v : Int32} (hv : x ||| y = v) (hdg : decode cc pc = .ok (.ior, 1)) (k : W p l e R s m args below meth c H locs cells slots Q (F0 m (pc + 1) ls (.int v :: rest))) : W p l e R s m args below meth c H locs cells slots Q (F0 m (pc) ls (.int y :: .int x :: rest)) := by
  subst hv
  exact lv_ior F.x F.cd hdg k
theorem a_ixor (F : Fx g l p s m args meth c cc nL own nm ret tb) {x y v : Int32} (hv : x ^^^ y = v) (hdg : decode cc pc = .ok (.ixor, 1)) (k : W p l e R s m args below meth c H locs cells slots Q (F0 m (pc + 1) ls (.int v :: rest))) : W p l e R s m args below meth c H locs cells slots Q (F0 m (pc) ls (.int y :: .int x :: rest)) := by
  subst hv
  exact lv_ixor F.x F.cd hdg k
theorem a_ishl (F : Fx g l p s m args meth c cc nL own nm ret tb) {x y v : Int32} (hv : x <<< (y &&& 31) = v) (hdg : decode cc pc = .ok (.ishl, 1)) (k : W p l e R s m args below meth c H locs cells slots Q (F0 m (pc + 1) ls (.int v :: rest))) : W p l e R s m args below meth c H locs cells slots Q (F0 m (pc) ls (.int y :: .int x :: rest)) := by
  subst hv
  exact lv_ishl F.x F.cd hdg k
theorem a_ishr (F : Fx g l p s m args meth c cc nL own nm ret tb) {x y v : Int32} (hv : x >>> (y &&& 31) = v) (hdg : decode cc pc = .ok (.ishr, 1)) (k : W p l e R s m args below meth c H locs cells slots Q (F0 m (pc + 1) ls (.int v :: rest))) : W p l e R s m args below meth c H locs cells slots Q (F0 m (pc) ls (.int y :: .int x :: rest)) := by
  subst hv
  exact lv_ishr F.x F.cd hdg k
theorem a_idiv (F : Fx g l p s m args meth c cc nL own nm ret tb) {x y v : Int32} (hv : x / y = v) (hne : ¬ y = 0) (hdg : decode cc pc = .ok (.idiv, 1)) (k : W p l e R s m args below meth c H locs cells slots Q (F0 m (pc + 1) ls (.int v :: rest))) : W p l e R s m args below meth c H locs cells slots Q (F0 m (pc) ls (.int y :: .int x :: rest)) := by
  subst hv
  exact lv_idiv F.x F.cd hdg hne k
theorem a_irem (F : Fx g l p s m args meth c cc nL own nm ret tb) {x y v : Int32} (hv : x - x / y * y = v) (hne : ¬ y = 0) (hdg : decode cc pc = .ok (.irem, 1)) (k : W p l e R s m args below meth c H locs cells slots Q (F0 m (pc + 1) ls (.int v :: rest))) : W p l e R s m args below meth c H locs cells slots Q (F0 m (pc) ls (.int y :: .int x :: rest)) := by
  subst hv
  exact lv_irem F.x F.cd hdg hne k
theorem a_ladd (F : Fx g l p s m args meth c cc nL own nm ret tb) {x y v : Int64} (hv : x + y = v) (hdg : decode cc pc = .ok (.ladd, 1)) (k : W p l e R s m args below meth c H locs cells slots Q (F0 m (pc + 1) ls (.long v :: rest))) : W p l e R s m args below meth c H locs cells slots Q (F0 m (pc) ls (.long y :: .long x :: rest)) := by
  subst hv
  exact lv_ladd F.x F.cd hdg k
theorem a_lsub (F : Fx g l p s m args meth c cc nL own nm ret tb) {x y v : Int64} (hv : x - y = v) (hdg : decode cc pc = .ok (.lsub, 1)) (k : W p l e R s m args below meth c H locs cells slots Q (F0 m (pc + 1) ls (.long v :: rest))) : W p l e R s m args below meth c H locs cells slots Q (F0 m (pc) ls (.long y :: .long x :: rest)) := by
  subst hv
  exact lv_lsub F.x F.cd hdg k
theorem a_lmul (F : Fx g l p s m args meth c cc nL own nm ret tb) {x y v : Int64} (hv : x * y = v) (hdg : decode cc pc = .ok (.lmul, 1)) (k : W p l e R s m args below meth c H locs cells slots Q (F0 m (pc + 1) ls (.long v :: rest))) : W p l e R s m args below meth c H locs cells slots Q (F0 m (pc) ls (.long y :: .long x :: rest)) := by
  subst hv
  exact lv_lmul F.x F.cd hdg k
theorem a_land (F : Fx g l p s m args meth c cc nL own nm ret tb) {x y v : Int64} (hv : x &&& y = v) (hdg : decode cc pc = .ok (.land, 1)) (k : W p l e R s m args below meth c H locs cells slots Q (F0 m (pc + 1) ls (.long v :: rest))) : W p l e R s m args below meth c H locs cells slots Q (F0 m (pc) ls (.long y :: .long x :: rest)) := by
  subst hv
  exact lv_land F.x F.cd hdg k
theorem a_lor (F : Fx g l p s m args meth c cc nL own nm ret tb) {x y v : Int64} (hv : x ||| y = v) (hdg : decode cc pc = .ok (.lor, 1)) (k : W p l e R s m args below meth c H locs cells slots Q (F0 m (pc + 1) ls (.long v :: rest))) : W p l e R s m args below meth c H locs cells slots Q (F0 m (pc) ls (.long y :: .long x :: rest)) := by
  subst hv
  exact lv_lor F.x F.cd hdg k
theorem a_lxor (F : Fx g l p s m args meth c cc nL own nm ret tb) {x y v : Int64} (hv : x ^^^ y = v) (hdg : decode cc pc = .ok (.lxor, 1)) (k : W p l e R s m args below meth c H locs cells slots Q (F0 m (pc + 1) ls (.long v :: rest))) : W p l e R s m args below meth c H locs cells slots Q (F0 m (pc) ls (.long y :: .long x :: rest)) := by
  subst hv
  exact lv_lxor F.x F.cd hdg k
theorem a_ineg (F : Fx g l p s m args meth c cc nL own nm ret tb) {x v : Int32} (hv : -x = v) (hdg : decode cc pc = .ok (.ineg, 1)) (k : W p l e R s m args below meth c H locs cells slots Q (F0 m (pc + 1) ls (.int v :: rest))) : W p l e R s m args below meth c H locs cells slots Q (F0 m (pc) ls (.int x :: rest)) := by
  subst hv
  exact lv_ineg F.x F.cd hdg k
theorem n_icmp_eq (F : Fx g l p s m args meth c cc nL own nm ret tb) {a b : Nat} {off : Int} {tgt : Nat} (ha : a < 2 ^ 31) (hb : b < 2 ^ 31) (hdg : decode cc pc = .ok (.if_icmp .eq off, 3)) (ht : (pc : Int) + off = (tgt : Int)) (kt : a = b → W p l e R s m args below meth c H locs cells slots Q (F0 m (tgt) ls (rest))) (kf : ¬ (a = b) → W p l e R s m args below meth c H locs cells slots Q (F0 m (pc + 3) ls (rest))) : W p l e R s m args below meth c H locs cells slots Q (F0 m (pc) ls (.int (nI b) :: .int (nI a) :: rest)) := by
  exact lv_icmp_eq F.x F.cd hdg ht (fun h => kt ((nI_eq ha hb).mp h)) (fun h => kf (fun q => h ((nI_eq ha hb).mpr q)))
theorem n_icmp_ne (F : Fx g l p s m args meth c cc nL own nm ret tb) {a b : Nat} {off : Int} {tgt : Nat} (ha : a < 2 ^ 31) (hb : b < 2 ^ 31) (hdg : decode cc pc = .ok (.if_icmp .ne off, 3)) (ht : (pc : Int) + off = (tgt : Int)) (kt : ¬ a = b → W p l e R s m args below meth c H locs cells slots Q (F0 m (tgt) ls (rest))) (kf : a = b → W p l e R s m args below meth c H locs cells slots Q (F0 m (pc + 3) ls (rest))) : W p l e R s m args below meth c H locs cells slots Q (F0 m (pc) ls (.int (nI b) :: .int (nI a) :: rest)) := by
  exact lv_icmp_ne F.x F.cd hdg ht (fun h => kt (fun q => h ((nI_eq ha hb).mpr q))) (fun h => kf ((nI_eq ha hb).mp h))
theorem n_icmp_lt (F : Fx g l p s m args meth c cc nL own nm ret tb) {a b : Nat} {off : Int} {tgt : Nat} (ha : a < 2 ^ 31) (hb : b < 2 ^ 31) (hdg : decode cc pc = .ok (.if_icmp .lt off, 3)) (ht : (pc : Int) + off = (tgt : Int)) (kt : a < b → W p l e R s m args below meth c H locs cells slots Q (F0 m (tgt) ls (rest))) (kf : ¬ (a < b) → W p l e R s m args below meth c H locs cells slots Q (F0 m (pc + 3) ls (rest))) : W p l e R s m args below meth c H locs cells slots Q (F0 m (pc) ls (.int (nI b) :: .int (nI a) :: rest)) := by
  exact lv_icmp_lt F.x F.cd hdg ht (fun h => kt ((nI_ltI ha hb).mp h)) (fun h => kf (fun q => h ((nI_ltI ha hb).mpr q)))
theorem n_icmp_ge (F : Fx g l p s m args meth c cc nL own nm ret tb) {a b : Nat} {off : Int} {tgt : Nat} (ha : a < 2 ^ 31) (hb : b < 2 ^ 31) (hdg : decode cc pc = .ok (.if_icmp .ge off, 3)) (ht : (pc : Int) + off = (tgt : Int)) (kt : b ≤ a → W p l e R s m args below meth c H locs cells slots Q (F0 m (tgt) ls (rest))) (kf : ¬ (b ≤ a) → W p l e R s m args below meth c H locs cells slots Q (F0 m (pc + 3) ls (rest))) : W p l e R s m args below meth c H locs cells slots Q (F0 m (pc) ls (.int (nI b) :: .int (nI a) :: rest)) := by
  exact lv_icmp_ge F.x F.cd hdg ht (fun h => kt ((nI_leI hb ha).mp h)) (fun h => kf (fun q => h ((nI_leI hb ha).mpr q)))
theorem n_icmp_gt (F : Fx g l p s m args meth c cc nL own nm ret tb) {a b : Nat} {off : Int} {tgt : Nat} (ha : a < 2 ^ 31) (hb : b < 2 ^ 31) (hdg : decode cc pc = .ok (.if_icmp .gt off, 3)) (ht : (pc : Int) + off = (tgt : Int)) (kt : b < a → W p l e R s m args below meth c H locs cells slots Q (F0 m (tgt) ls (rest))) (kf : ¬ (b < a) → W p l e R s m args below meth c H locs cells slots Q (F0 m (pc + 3) ls (rest))) : W p l e R s m args below meth c H locs cells slots Q (F0 m (pc) ls (.int (nI b) :: .int (nI a) :: rest)) := by
  exact lv_icmp_gt F.x F.cd hdg ht (fun h => kt ((nI_ltI hb ha).mp h)) (fun h => kf (fun q => h ((nI_ltI hb ha).mpr q)))
theorem n_icmp_le (F : Fx g l p s m args meth c cc nL own nm ret tb) {a b : Nat} {off : Int} {tgt : Nat} (ha : a < 2 ^ 31) (hb : b < 2 ^ 31) (hdg : decode cc pc = .ok (.if_icmp .le off, 3)) (ht : (pc : Int) + off = (tgt : Int)) (kt : a ≤ b → W p l e R s m args below meth c H locs cells slots Q (F0 m (tgt) ls (rest))) (kf : ¬ (a ≤ b) → W p l e R s m args below meth c H locs cells slots Q (F0 m (pc + 3) ls (rest))) : W p l e R s m args below meth c H locs cells slots Q (F0 m (pc) ls (.int (nI b) :: .int (nI a) :: rest)) := by
  exact lv_icmp_le F.x F.cd hdg ht (fun h => kt ((nI_leI ha hb).mp h)) (fun h => kf (fun q => h ((nI_leI ha hb).mpr q)))
theorem n_eq0 {a : Nat} (ha : a < 2 ^ 31) : nI a = 0 ↔ a = 0 := by
  rw [← nI_0]
  exact nI_eq ha (by decide)
theorem n_gt0 {a : Nat} (ha : a < 2 ^ 31) : 0 < nI a ↔ 0 < a := by
  rw [← nI_0]
  exact nI_ltI (by decide) ha
theorem n_le0 {a : Nat} (ha : a < 2 ^ 31) : nI a ≤ 0 ↔ a = 0 := by
  rw [← nI_0, nI_leI ha (by decide)]
  omega
theorem n_if_eq (F : Fx g l p s m args meth c cc nL own nm ret tb) {a : Nat} {off : Int} {tgt : Nat} (ha : a < 2 ^ 31) (hdg : decode cc pc = .ok (.ifCond .eq off, 3)) (ht : (pc : Int) + off = (tgt : Int)) (kt : a = 0 → W p l e R s m args below meth c H locs cells slots Q (F0 m (tgt) ls (rest))) (kf : ¬ (a = 0) → W p l e R s m args below meth c H locs cells slots Q (F0 m (pc + 3) ls (rest))) : W p l e R s m args below meth c H locs cells slots Q (F0 m (pc) ls (.int (nI a) :: rest)) := by
  exact lv_if_eq F.x F.cd hdg ht (fun h => kt ((n_eq0 ha).mp h)) (fun h => kf (fun q => h ((n_eq0 ha).mpr q)))
theorem n_if_ne (F : Fx g l p s m args meth c cc nL own nm ret tb) {a : Nat} {off : Int} {tgt : Nat} (ha : a < 2 ^ 31) (hdg : decode cc pc = .ok (.ifCond .ne off, 3)) (ht : (pc : Int) + off = (tgt : Int)) (kt : ¬ a = 0 → W p l e R s m args below meth c H locs cells slots Q (F0 m (tgt) ls (rest))) (kf : a = 0 → W p l e R s m args below meth c H locs cells slots Q (F0 m (pc + 3) ls (rest))) : W p l e R s m args below meth c H locs cells slots Q (F0 m (pc) ls (.int (nI a) :: rest)) := by
  exact lv_if_ne F.x F.cd hdg ht (fun h => kt (fun q => h ((n_eq0 ha).mpr q))) (fun h => kf ((n_eq0 ha).mp h))
theorem n_if_gt (F : Fx g l p s m args meth c cc nL own nm ret tb) {a : Nat} {off : Int} {tgt : Nat} (ha : a < 2 ^ 31) (hdg : decode cc pc = .ok (.ifCond .gt off, 3)) (ht : (pc : Int) + off = (tgt : Int)) (kt : 0 < a → W p l e R s m args below meth c H locs cells slots Q (F0 m (tgt) ls (rest))) (kf : ¬ (0 < a) → W p l e R s m args below meth c H locs cells slots Q (F0 m (pc + 3) ls (rest))) : W p l e R s m args below meth c H locs cells slots Q (F0 m (pc) ls (.int (nI a) :: rest)) := by
  exact lv_if_gt F.x F.cd hdg ht (fun h => kt ((n_gt0 ha).mp h)) (fun h => kf (fun q => h ((n_gt0 ha).mpr q)))
theorem n_if_le (F : Fx g l p s m args meth c cc nL own nm ret tb) {a : Nat} {off : Int} {tgt : Nat} (ha : a < 2 ^ 31) (hdg : decode cc pc = .ok (.ifCond .le off, 3)) (ht : (pc : Int) + off = (tgt : Int)) (kt : a = 0 → W p l e R s m args below meth c H locs cells slots Q (F0 m (tgt) ls (rest))) (kf : ¬ (a = 0) → W p l e R s m args below meth c H locs cells slots Q (F0 m (pc + 3) ls (rest))) : W p l e R s m args below meth c H locs cells slots Q (F0 m (pc) ls (.int (nI a) :: rest)) := by
  exact lv_if_le F.x F.cd hdg ht (fun h => kt ((n_le0 ha).mp h)) (fun h => kf (fun q => h ((n_le0 ha).mpr q)))
theorem n_if_lt (F : Fx g l p s m args meth c cc nL own nm ret tb) {a : Nat} {off : Int} {tgt : Nat} (ha : a < 2 ^ 31) (hdg : decode cc pc = .ok (.ifCond .lt off, 3)) (ht : (pc : Int) + off = (tgt : Int)) (kf : W p l e R s m args below meth c H locs cells slots Q (F0 m (pc + 3) ls (rest))) : W p l e R s m args below meth c H locs cells slots Q (F0 m (pc) ls (.int (nI a) :: rest)) :=
  lv_if_lt F.x F.cd hdg ht (fun h => absurd h (nI_pos ha)) (fun _ => kf)
theorem n_if_ge (F : Fx g l p s m args meth c cc nL own nm ret tb) {a : Nat} {off : Int} {tgt : Nat} (ha : a < 2 ^ 31) (hdg : decode cc pc = .ok (.ifCond .ge off, 3)) (ht : (pc : Int) + off = (tgt : Int)) (kt : W p l e R s m args below meth c H locs cells slots Q (F0 m (tgt) ls (rest))) : W p l e R s m args below meth c H locs cells slots Q (F0 m (pc) ls (.int (nI a) :: rest)) :=
  lv_if_ge F.x F.cd hdg ht (fun _ => kt) (fun h => absurd (nI_pos' ha) h)
theorem b_if_eq (F : Fx g l p s m args meth c cc nL own nm ret tb) {b : Bool} {off : Int} {tgt : Nat} (hdg : decode cc pc = .ok (.ifCond .eq off, 3)) (ht : (pc : Int) + off = (tgt : Int)) (kt : b = false → W p l e R s m args below meth c H locs cells slots Q (F0 m (tgt) ls (rest))) (kf : b = true → W p l e R s m args below meth c H locs cells slots Q (F0 m (pc + 3) ls (rest))) : W p l e R s m args below meth c H locs cells slots Q (F0 m (pc) ls (.int (bI b) :: rest)) := by
  cases b
  · exact lv_if_eq F.x F.cd hdg ht (fun _ => kt rfl) (fun h => absurd rfl h)
  · exact lv_if_eq F.x F.cd hdg ht (fun h => absurd h (by decide)) (fun _ => kf rfl)
theorem b_if_ne (F : Fx g l p s m args meth c cc nL own nm ret tb) {b : Bool} {off : Int} {tgt : Nat} (hdg : decode cc pc = .ok (.ifCond .ne off, 3)) (ht : (pc : Int) + off = (tgt : Int)) (kt : b = true → W p l e R s m args below meth c H locs cells slots Q (F0 m (tgt) ls (rest))) (kf : b = false → W p l e R s m args below meth c H locs cells slots Q (F0 m (pc + 3) ls (rest))) : W p l e R s m args below meth c H locs cells slots Q (F0 m (pc) ls (.int (bI b) :: rest)) := by
  cases b
  · exact lv_if_ne F.x F.cd hdg ht (fun h => absurd rfl h) (fun _ => kf rfl)
  · exact lv_if_ne F.x F.cd hdg ht (fun _ => kt rfl) (fun h => absurd h (by decide))
theorem n_iald (F : Fx g l p s m args meth c cc nL own nm ret tb) (hW : Hl g σ H locs) {n i : Nat} {f : Nat → Int32} {x : Int32} (he : σ a = some (eI g 0 n f)) (hi : i < n) (hn : n < 2 ^ 31) (hx : f i = x) (hdg : decode cc pc = .ok (.iaload, 1)) (kk : W p l e R s m args below meth c H locs cells slots Q (F0 m (pc + 1) ls (.int x :: rest))) : W p l e R s m args below meth c H locs cells slots Q (F0 m (pc) ls (.int (nI i) :: .ref a :: rest)) := by
  subst hx
  refine s_ald F hW he (vp_in_nI hi hn) hdg ?_
  rw [nI_clamp (Nat.lt_trans hi hn)]
  exact kk
theorem n_bald (F : Fx g l p s m args meth c cc nL own nm ret tb) (hW : Hl g σ H locs) {n i : Nat} {f : Nat → Int32} {x : Int32} (he : σ a = some (eI g 1 n f)) (hi : i < n) (hn : n < 2 ^ 31) (hx : f i = x) (hdg : decode cc pc = .ok (.baload, 1)) (kk : W p l e R s m args below meth c H locs cells slots Q (F0 m (pc + 1) ls (.int x :: rest))) : W p l e R s m args below meth c H locs cells slots Q (F0 m (pc) ls (.int (nI i) :: .ref a :: rest)) := by
  subst hx
  refine s_bald F hW he (vp_in_nI hi hn) hdg ?_
  rw [nI_clamp (Nat.lt_trans hi hn)]
  exact kk
theorem n_zald (F : Fx g l p s m args meth c cc nL own nm ret tb) (hW : Hl g σ H locs) {n i : Nat} {f : Nat → Int32} {x : Int32} (he : σ a = some (eI g 2 n f)) (hi : i < n) (hn : n < 2 ^ 31) (hx : f i = x) (hdg : decode cc pc = .ok (.baload, 1)) (kk : W p l e R s m args below meth c H locs cells slots Q (F0 m (pc + 1) ls (.int x :: rest))) : W p l e R s m args below meth c H locs cells slots Q (F0 m (pc) ls (.int (nI i) :: .ref a :: rest)) := by
  subst hx
  refine s_zald F hW he (vp_in_nI hi hn) hdg ?_
  rw [nI_clamp (Nat.lt_trans hi hn)]
  exact kk
theorem n_cald (F : Fx g l p s m args meth c cc nL own nm ret tb) (hW : Hl g σ H locs) {n i : Nat} {f : Nat → Int32} {x : Int32} (he : σ a = some (eI g 3 n f)) (hi : i < n) (hn : n < 2 ^ 31) (hx : f i = x) (hdg : decode cc pc = .ok (.caload, 1)) (kk : W p l e R s m args below meth c H locs cells slots Q (F0 m (pc + 1) ls (.int x :: rest))) : W p l e R s m args below meth c H locs cells slots Q (F0 m (pc) ls (.int (nI i) :: .ref a :: rest)) := by
  subst hx
  refine s_cald F hW he (vp_in_nI hi hn) hdg ?_
  rw [nI_clamp (Nat.lt_trans hi hn)]
  exact kk
theorem n_lald (F : Fx g l p s m args meth c cc nL own nm ret tb) (hW : Hl g σ H locs) {n i : Nat} {f : Nat → Int64} {x : Int64} (he : σ a = some (eL g n f)) (hi : i < n) (hn : n < 2 ^ 31) (hx : f i = x) (hdg : decode cc pc = .ok (.laload, 1)) (kk : W p l e R s m args below meth c H locs cells slots Q (F0 m (pc + 1) ls (.long x :: rest))) : W p l e R s m args below meth c H locs cells slots Q (F0 m (pc) ls (.int (nI i) :: .ref a :: rest)) := by
  subst hx
  refine s_lald F hW he (vp_in_nI hi hn) hdg ?_
  rw [nI_clamp (Nat.lt_trans hi hn)]
  exact kk
theorem n_aald (F : Fx g l p s m args meth c cc nL own nm ret tb) (hW : Hl g σ H locs) {n i : Nat} {f : Nat → Option Nat} {x : Value} (he : σ a = some (eR g n f)) (hi : i < n) (hn : n < 2 ^ 31) (hx : va_rf (f i) = x) (hdg : decode cc pc = .ok (.aaload, 1)) (kk : W p l e R s m args below meth c H locs cells slots Q (F0 m (pc + 1) ls (x :: rest))) : W p l e R s m args below meth c H locs cells slots Q (F0 m (pc) ls (.int (nI i) :: .ref a :: rest)) := by
  subst hx
  refine s_aald F hW he (vp_in_nI hi hn) hdg ?_
  rw [nI_clamp (Nat.lt_trans hi hn)]
  exact kk
theorem n_iast (F : Fx g l p s m args meth c cc nL own nm ret tb) (hW : Hl g σ H locs) {n i : Nat} {f : Nat → Int32} {x : Int32} (he : σ a = some (eI g 0 n f)) (hb0 : gB g ≤ a) (hi : i < n) (hn : n < 2 ^ 31) (hdg : decode cc pc = .ok (.iastore, 1)) (kk : ∀ (H1 : Heap) (locs1 : List Loc), Hl g (sset σ a (eI g 0 n (upd f i x))) H1 locs1 → W p l e R s m args below meth c H1 locs1 cells slots Q (F0 m (pc + 1) ls rest)) : W p l e R s m args below meth c H locs cells slots Q (F0 m (pc) ls (.int x :: .int (nI i) :: .ref a :: rest)) := by
  refine s_ast F hW he hb0 (vp_in_nI hi hn) hdg ?_
  rw [nI_clamp (Nat.lt_trans hi hn)]
  exact kk
theorem n_iastN (F : Fx g l p s m args meth c cc nL own nm ret tb) (hW : Hl g σ H locs) {n i x : Nat} {f : Nat → Nat} (he : σ a = some (eN g 0 n f)) (hb0 : gB g ≤ a) (hi : i < n) (hn : n < 2 ^ 31) (hdg : decode cc pc = .ok (.iastore, 1)) (kk : ∀ (H1 : Heap) (locs1 : List Loc), Hl g (sset σ a (eN g 0 n (va_up f i x))) H1 locs1 → W p l e R s m args below meth c H1 locs1 cells slots Q (F0 m (pc + 1) ls rest)) : W p l e R s m args below meth c H locs cells slots Q (F0 m (pc) ls (.int (nI x) :: .int (nI i) :: .ref a :: rest)) := by
  refine n_iast F hW he hb0 hi hn hdg ?_
  rw [upd_nI]
  exact kk
theorem n_zast (F : Fx g l p s m args meth c cc nL own nm ret tb) (hW : Hl g σ H locs) {n i : Nat} {f : Nat → Int32} {x y : Int32} (he : σ a = some (eI g 2 n f)) (hb0 : gB g ≤ a) (hi : i < n) (hn : n < 2 ^ 31) (hy : narrow .boolean (.int x) = .int y) (hdg : decode cc pc = .ok (.bastore, 1)) (kk : ∀ (H1 : Heap) (locs1 : List Loc), Hl g (sset σ a (eI g 2 n (upd f i y))) H1 locs1 → W p l e R s m args below meth c H1 locs1 cells slots Q (F0 m (pc + 1) ls rest)) : W p l e R s m args below meth c H locs cells slots Q (F0 m (pc) ls (.int x :: .int (nI i) :: .ref a :: rest)) := by
  refine s_zast F hW he hb0 (vp_in_nI hi hn) hy hdg ?_
  rw [nI_clamp (Nat.lt_trans hi hn)]
  exact kk
theorem n_bast (F : Fx g l p s m args meth c cc nL own nm ret tb) (hW : Hl g σ H locs) {n i : Nat} {f : Nat → Int32} {x y : Int32} (he : σ a = some (eI g 1 n f)) (hb0 : gB g ≤ a) (hi : i < n) (hn : n < 2 ^ 31) (hy : narrow .byte (.int x) = .int y) (hdg : decode cc pc = .ok (.bastore, 1)) (kk : ∀ (H1 : Heap) (locs1 : List Loc), Hl g (sset σ a (eI g 1 n (upd f i y))) H1 locs1 → W p l e R s m args below meth c H1 locs1 cells slots Q (F0 m (pc + 1) ls rest)) : W p l e R s m args below meth c H locs cells slots Q (F0 m (pc) ls (.int x :: .int (nI i) :: .ref a :: rest)) := by
  refine s_bast F hW he hb0 (vp_in_nI hi hn) hy hdg ?_
  rw [nI_clamp (Nat.lt_trans hi hn)]
  exact kk
theorem n_cast (F : Fx g l p s m args meth c cc nL own nm ret tb) (hW : Hl g σ H locs) {n i : Nat} {f : Nat → Int32} {x y : Int32} (he : σ a = some (eI g 3 n f)) (hb0 : gB g ≤ a) (hi : i < n) (hn : n < 2 ^ 31) (hy : narrow .char (.int x) = .int y) (hdg : decode cc pc = .ok (.castore, 1)) (kk : ∀ (H1 : Heap) (locs1 : List Loc), Hl g (sset σ a (eI g 3 n (upd f i y))) H1 locs1 → W p l e R s m args below meth c H1 locs1 cells slots Q (F0 m (pc + 1) ls rest)) : W p l e R s m args below meth c H locs cells slots Q (F0 m (pc) ls (.int x :: .int (nI i) :: .ref a :: rest)) := by
  refine s_cast F hW he hb0 (vp_in_nI hi hn) hy hdg ?_
  rw [nI_clamp (Nat.lt_trans hi hn)]
  exact kk
theorem n_last (F : Fx g l p s m args meth c cc nL own nm ret tb) (hW : Hl g σ H locs) {n i : Nat} {f : Nat → Int64} {x : Int64} (he : σ a = some (eL g n f)) (hb0 : gB g ≤ a) (hi : i < n) (hn : n < 2 ^ 31) (hdg : decode cc pc = .ok (.lastore, 1)) (kk : ∀ (H1 : Heap) (locs1 : List Loc), Hl g (sset σ a (eL g n (va_up f i x))) H1 locs1 → W p l e R s m args below meth c H1 locs1 cells slots Q (F0 m (pc + 1) ls rest)) : W p l e R s m args below meth c H locs cells slots Q (F0 m (pc) ls (.long x :: .int (nI i) :: .ref a :: rest)) := by
  refine s_last F hW he hb0 (vp_in_nI hi hn) hdg ?_
  rw [nI_clamp (Nat.lt_trans hi hn)]
  exact kk
theorem n_aast (F : Fx g l p s m args meth c cc nL own nm ret tb) (hW : Hl g σ H locs) {n i : Nat} {f : Nat → Option Nat} {v ci : Nat} {vs : List Value} {r : vw_C} (he : σ a = some (eR g n f)) (hb0 : gB g ≤ a) (hv : σ v = some (.inr (ci, vs))) (hc : vCl[ci]? = some r) (hca : Cond.castable r.1 "java/lang/Object" ∈ lw_tbl) (hi : i < n) (hn : n < 2 ^ 31) (hdg : decode cc pc = .ok (.aastore, 1)) (kk : ∀ (H1 : Heap) (locs1 : List Loc), Hl g (sset σ a (eR g n (va_up f i (some v)))) H1 locs1 → W p l e R s m args below meth c H1 locs1 cells slots Q (F0 m (pc + 1) ls rest)) : W p l e R s m args below meth c H locs cells slots Q (F0 m (pc) ls (.ref v :: .int (nI i) :: .ref a :: rest)) := by
  refine s_aast F hW he hb0 hv hc hca (vp_in_nI hi hn) hdg ?_
  rw [nI_clamp (Nat.lt_trans hi hn)]
  exact kk
/-- switch over a natural: in range, out of range -/
theorem n_tableIn (F : Fx g l p s m args meth c cc nL own nm ret tb) {dflt lo hi : Int} {offs : Array Int} {len x tgt : Nat} {off : Int} (hdg : decode cc pc = .ok (.tableswitch dflt lo hi offs, len)) (hx : x < 2 ^ 31) (h1 : lo ≤ x) (h2 : (x : Int) ≤ hi) (ho : offs[((x : Int) - lo).toNat]? = some off) (ht : (pc : Int) + off = (tgt : Int))
    (k : W p l e R s m args below meth c H locs cells slots Q (F0 m tgt ls rest)) : W p l e R s m args below meth c H locs cells slots Q (F0 m pc ls (.int (nI x) :: rest)) := by
  refine lv_tableIn F.x F.cd hdg ?_ ?_ (off := off) ?_ ht k
  · rw [nI_toInt hx]; omega
  · rw [nI_toInt hx]; omega
  · rw [nI_toInt hx]; exact ho
theorem n_tableOut (F : Fx g l p s m args meth c cc nL own nm ret tb) {dflt lo hi : Int} {offs : Array Int} {len x tgt : Nat} (hdg : decode cc pc = .ok (.tableswitch dflt lo hi offs, len)) (hx : x < 2 ^ 31) (h : (x : Int) < lo ∨ hi < (x : Int)) (ht : (pc : Int) + dflt = (tgt : Int))
    (k : W p l e R s m args below meth c H locs cells slots Q (F0 m tgt ls rest)) : W p l e R s m args below meth c H locs cells slots Q (F0 m pc ls (.int (nI x) :: rest)) := by
  refine lv_tableOut F.x F.cd hdg ?_ ht k
  rw [nI_toInt hx]
  exact h
theorem n_copyb (F : Fx g l p s m args meth c cc nL own nm ret tb) (hW : Hl g σ H locs) {index : Nat} (hlink : Cond.methodLink own index arraycopyName ∈ lw_all) (hnat : Cond.native arraycopyName ∈ lw_all) (hstat : Cond.static arraycopyName ∈ lw_all) (hini : Cond.initialized "java/lang/System" ∈ lw_all)
    {a0 n0 n1 sp dp n : Nat} {f f1 : Nat → Int32} (he0 : σ a0 = some (eI g 1 n0 f)) (he1 : σ a = some (eI g 1 n1 f1)) (hb0 : gB g ≤ a) (h0 : n0 < 2 ^ 31) (h1 : n1 < 2 ^ 31) (h4 : sp + n ≤ n0) (h5 : dp + n ≤ n1) (hfit : ∀ i, i < n → fits .byte (.int (f (sp + i))) = true) (hls : ls.size = nL) (hframes : 1 ≤ R.frames) (hlocals : (rest.map fun v => v.category).sum + (nativeFrameWords "java/lang/System" "arraycopy" 5 + 11) ≤ R.locals) (hdg : decode cc pc = .ok (.invokestatic index, 3))
    (kk : ∀ (H1 : Heap) (locs1 : List Loc), Hl g (sset σ a (eI g 1 n1 (va_cpy f f1 sp dp n))) H1 locs1 → W p l e R s m args below meth c H1 locs1 cells slots Q (F0 m (pc + 3) ls rest)) : W p l e R s m args below meth c H locs cells slots Q (F0 m pc ls (.int (nI n) :: .int (nI dp) :: .ref a :: .int (nI sp) :: .ref a0 :: rest)) := by
  refine s_copyb F hW hlink hnat hstat hini he0 he1 hb0 (nI_pos (by omega)) (nI_pos (by omega)) (nI_pos (by omega)) (by rw [nI_clamp (by omega), nI_clamp (by omega)]; exact h4) (by rw [nI_clamp (by omega), nI_clamp (by omega)]; exact h5) (by rw [nI_clamp (by omega), nI_clamp (by omega)]; exact hfit) hls hframes hlocals hdg ?_
  rw [nI_clamp (n := sp) (by omega), nI_clamp (n := dp) (by omega), nI_clamp (n := n) (by omega)]
  exact kk
theorem n_copyq (F : Fx g l p s m args meth c cc nL own nm ret tb) (hW : Hl g σ H locs) {index : Nat} (hlink : Cond.methodLink own index arraycopyName ∈ lw_all) (hnat : Cond.native arraycopyName ∈ lw_all) (hstat : Cond.static arraycopyName ∈ lw_all) (hini : Cond.initialized "java/lang/System" ∈ lw_all)
    {a0 n0 n1 sp dp n : Nat} {f f1 : Nat → Option Nat} (he0 : σ a0 = some (eR g n0 f)) (he1 : σ a = some (eR g n1 f1)) (hb0 : gB g ≤ a) (h0 : n0 < 2 ^ 31) (h1 : n1 < 2 ^ 31) (h4 : sp + n ≤ n0) (h5 : dp + n ≤ n1) (hel : ∀ i, i < n → ∀ y : Nat, f (sp + i) = some y → ∃ (ci : Nat) (vs : List Value) (r : vw_C), σ y = some (.inr (ci, vs)) ∧ vCl[ci]? = some r ∧ Cond.castable r.1 "java/lang/Object" ∈ lw_tbl) (hls : ls.size = nL) (hframes : 1 ≤ R.frames) (hlocals : (rest.map fun v => v.category).sum + (nativeFrameWords "java/lang/System" "arraycopy" 5 + 11) ≤ R.locals) (hdg : decode cc pc = .ok (.invokestatic index, 3))
    (kk : ∀ (H1 : Heap) (locs1 : List Loc), Hl g (sset σ a (eR g n1 (va_cpy f f1 sp dp n))) H1 locs1 → W p l e R s m args below meth c H1 locs1 cells slots Q (F0 m (pc + 3) ls rest)) : W p l e R s m args below meth c H locs cells slots Q (F0 m pc ls (.int (nI n) :: .int (nI dp) :: .ref a :: .int (nI sp) :: .ref a0 :: rest)) := by
  refine s_copyq F hW hlink hnat hstat hini he0 he1 hb0 (nI_pos (by omega)) (nI_pos (by omega)) (nI_pos (by omega)) (by rw [nI_clamp (by omega), nI_clamp (by omega)]; exact h4) (by rw [nI_clamp (by omega), nI_clamp (by omega)]; exact h5) (by rw [nI_clamp (by omega), nI_clamp (by omega)]; exact hel) hls hframes hlocals hdg ?_
  rw [nI_clamp (n := sp) (by omega), nI_clamp (n := dp) (by omega), nI_clamp (n := n) (by omega)]
  exact kk
theorem n_acmp_eq (F : Fx g l p s m args meth c cc nL own nm ret tb) {x y : Nat} {off : Int} {tgt : Nat} (hdg : decode cc pc = .ok (.if_acmp .eq off, 3)) (ht : (pc : Int) + off = (tgt : Int)) (kt : x = y → W p l e R s m args below meth c H locs cells slots Q (F0 m tgt ls rest)) (kf : ¬ x = y → W p l e R s m args below meth c H locs cells slots Q (F0 m (pc + 3) ls rest)) : W p l e R s m args below meth c H locs cells slots Q (F0 m pc ls (.ref y :: .ref x :: rest)) :=
  lv_acmp_eq (rx := some x) (ry := some y) F.x F.cd hdg ht (fun h => kt (Option.some.inj h)) (fun h => kf (fun q => h (by rw [q])))
theorem n_acmp_ne (F : Fx g l p s m args meth c cc nL own nm ret tb) {x y : Nat} {off : Int} {tgt : Nat} (hdg : decode cc pc = .ok (.if_acmp .ne off, 3)) (ht : (pc : Int) + off = (tgt : Int)) (kt : ¬ x = y → W p l e R s m args below meth c H locs cells slots Q (F0 m tgt ls rest)) (kf : x = y → W p l e R s m args below meth c H locs cells slots Q (F0 m (pc + 3) ls rest)) : W p l e R s m args below meth c H locs cells slots Q (F0 m pc ls (.ref y :: .ref x :: rest)) :=
  lv_acmp_ne (rx := some x) (ry := some y) F.x F.cd hdg ht (fun h => kt (fun q => h (by rw [q]))) (fun h => kf (Option.some.inj h))
/-- getClass() of an Object[] -/
theorem s_getClass (F : Fx g l p s m args meth c cc nL own nm ret tb) (hW : Hl g σ H locs) {n : Nat} {f : Nat → Option Nat} (he : σ a = some (eR g n f)) {index : Nat} (hlink : Cond.methodLink own index ⟨"java/lang/Object", "getClass", "()Ljava/lang/Class;"⟩ ∈ lw_all) (hsel : Cond.selects "[Ljava/lang/Object;" ⟨"java/lang/Object", "getClass", "()Ljava/lang/Class;"⟩ ⟨"java/lang/Object", "getClass", "()Ljava/lang/Class;"⟩ ∈ lw_all) (hinst : Cond.instanceMethod ⟨"java/lang/Object", "getClass", "()Ljava/lang/Class;"⟩ ∈ lw_all) (hnat : Cond.native ⟨"java/lang/Object", "getClass", "()Ljava/lang/Class;"⟩ ∈ lw_all)
    (hls : ls.size = nL) (hframes : 1 ≤ R.frames) (hlocals : (rest.map fun v => v.category).sum + 14 ≤ R.locals) (hdg : decode cc pc = .ok (.invokevirtual index, 3)) (kk : W p l e R s m args below meth c H locs cells slots Q (F0 m (pc + 3) ls (.ref (gA g 9) :: rest))) : W p l e R s m args below meth c H locs cells slots Q (F0 m pc ls (.ref a :: rest)) := by
  obtain ⟨cell, q1, q2, -, -, h2, -⟩ := hW.1.1 a _ he
  exact va_getC F.x F.cd (F.ml.trans hls.symm) F.ow (F.ts _ hlink) (va_Dc.use F.ok.2.2.2.2.2.2.2.2.2.2.2.2.1) (F.ts _ hsel) (F.ts _ hinst) (F.ts _ hnat) F.ok.2.2.2.2.2.2.2.2.2.2.2.1 ⟨cell, q1, q2, by rw [h2]; exact va_nmO (s_arr F (k := 6) rfl).2 (by decide +kernel)⟩ hframes hlocals hdg kk
theorem s_mmax (F : Fx g l p s m args meth c cc nL own nm ret tb) {index : Nat} (hlink : Cond.methodLink own index Lib.Math.max.name ∈ lw_all) (hstat : Cond.static Lib.Math.max.name ∈ lw_all) (hini : Cond.initialized "java/lang/Math" ∈ lw_all) (hcode : Cond.code Lib.Math.max.name Lib.Math.max.code 2 (some .int) ∈ lw_all) (hls : ls.size = nL) (hframes : 1 ≤ R.frames) (hlocals : (rest.map fun v => v.category).sum + 13 ≤ R.locals) (hc : cells ≤ R.cells) (hs : slots ≤ R.slots) {x y v : Int32} (hv : (if x < y then y else x) = v) (hdg : decode cc pc = .ok (.invokestatic index, 3)) (kk : W p l e R s m args below meth c H locs cells slots Q (F0 m (pc + 3) ls (.int v :: rest))) : W p l e R s m args below meth c H locs cells slots Q (F0 m (pc) ls (.int y :: .int x :: rest)) := by
  subst hv
  exact va_mmax F.x F.cd (F.ml.trans hls.symm) F.ow (F.ts _ hlink) (F.ts _ hstat) (F.ts _ hini) (F.ts _ hcode) hframes hlocals hc hs hdg kk
theorem s_mmin (F : Fx g l p s m args meth c cc nL own nm ret tb) {index : Nat} (hlink : Cond.methodLink own index Lib.Math.min.name ∈ lw_all) (hstat : Cond.static Lib.Math.min.name ∈ lw_all) (hini : Cond.initialized "java/lang/Math" ∈ lw_all) (hcode : Cond.code Lib.Math.min.name Lib.Math.min.code 2 (some .int) ∈ lw_all) (hls : ls.size = nL) (hframes : 1 ≤ R.frames) (hlocals : (rest.map fun v => v.category).sum + 13 ≤ R.locals) (hc : cells ≤ R.cells) (hs : slots ≤ R.slots) {x y v : Int32} (hv : (if y < x then y else x) = v) (hdg : decode cc pc = .ok (.invokestatic index, 3)) (kk : W p l e R s m args below meth c H locs cells slots Q (F0 m (pc + 3) ls (.int v :: rest))) : W p l e R s m args below meth c H locs cells slots Q (F0 m (pc) ls (.int y :: .int x :: rest)) := by
  subst hv
  exact va_mmin F.x F.cd (F.ml.trans hls.symm) F.ow (F.ts _ hlink) (F.ts _ hstat) (F.ts _ hini) (F.ts _ hcode) hframes hlocals hc hs hdg kk
theorem s_mabs (F : Fx g l p s m args meth c cc nL own nm ret tb) {index : Nat} (hlink : Cond.methodLink own index Lib.Math.abs.name ∈ lw_all) (hstat : Cond.static Lib.Math.abs.name ∈ lw_all) (hini : Cond.initialized "java/lang/Math" ∈ lw_all) (hcode : Cond.code Lib.Math.abs.name Lib.Math.abs.code 1 (some .int) ∈ lw_all) (hls : ls.size = nL) (hframes : 1 ≤ R.frames) (hlocals : (rest.map fun v => v.category).sum + 13 ≤ R.locals) (hc : cells ≤ R.cells) (hs : slots ≤ R.slots) {x v : Int32} (hv : (if 0 ≤ x then x else 0 - x) = v) (hdg : decode cc pc = .ok (.invokestatic index, 3)) (kk : W p l e R s m args below meth c H locs cells slots Q (F0 m (pc + 3) ls (.int v :: rest))) : W p l e R s m args below meth c H locs cells slots Q (F0 m (pc) ls (.int x :: rest)) := by
  subst hv
  exact va_mabs F.x F.cd (F.ml.trans hls.symm) F.ow (F.ts _ hlink) (F.ts _ hstat) (F.ts _ hini) (F.ts _ hcode) hframes hlocals hc hs hdg kk
theorem nI_max {a b : Nat} (ha : a < 2 ^ 31) (hb : b < 2 ^ 31) : (if nI a < nI b then nI b else nI a) = nI (max a b) := by
  by_cases h : a < b
  · rw [if_pos (nI_lt h hb), show max a b = b by omega]
  · rw [if_neg (nI_nlt (by omega) ha), show max a b = a by omega]
theorem nI_min {a b : Nat} (ha : a < 2 ^ 31) (hb : b < 2 ^ 31) : (if nI b < nI a then nI b else nI a) = nI (min a b) := by
  by_cases h : b < a
  · rw [if_pos (nI_lt h ha), show min a b = b by omega]
  · rw [if_neg (nI_nlt (by omega) hb), show min a b = a by omega]
end NR
