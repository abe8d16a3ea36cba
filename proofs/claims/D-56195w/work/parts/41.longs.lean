/-! ===== lcmp; bits of longs ===== -/
set_option maxRecDepth 100000
def lcp (x y : Int64) : Int32 := if y < x then 1 else if x = y then 0 else -1
theorem lcp_eq {x y : Int64} : lcp x y = 0 ↔ x = y := by
  unfold lcp
  by_cases h : y < x
  · rw [if_pos h]
    exact ⟨fun e => absurd e (by decide), fun e => by rw [e] at h; exact absurd h Int64.lt_irrefl⟩
  · rw [if_neg h]
    by_cases e : x = y
    · rw [if_pos e]; exact ⟨fun _ => e, fun _ => rfl⟩
    · rw [if_neg e]; exact ⟨fun q => absurd q (by decide), fun q => absurd q e⟩
section SL
variable {g : Gh} {l : Launch} {p : Program} {e : Env} {R : Room} {s : State} {m : MethodId} {args : Array Value} {below : List Frame} {meth : Method} {c : Code} {H : Heap} {locs : List Loc} {cells slots : Nat} {Q : State → Prop}
variable {cc : ByteArray} {nL : Nat} {own nm : String} {ret : Option FieldType} {tb : List ExceptionTableEntry} {pc : Nat} {ls : Array Slot} {rest st : List Value}
theorem s_lcmp (F : Fx g l p s m args meth c cc nL own nm ret tb) {x y : Int64} (hdg : decode cc pc = .ok (.lcmp, 1)) (k : W p l e R s m args below meth c H locs cells slots Q (F0 m (pc + 1) ls (.int (lcp x y) :: rest))) : W p l e R s m args below meth c H locs cells slots Q (F0 m pc ls (.long y :: .long x :: rest)) := by
  intro T hT X
  have hexec := F.x
  have hb := F.cd
  obtain ⟨t, a, b⟩ := k T hT X
  refine ⟨t, ?_, b⟩
  unfold lcp at a
  by_cases h : y < x
  · rw [if_pos h] at a
    jvm_step X.here [X.here.top, hexec, hb, hdg, h]
    exact a
  · rw [if_neg h] at a
    by_cases h2 : x = y
    · rw [if_pos h2] at a
      subst h2
      jvm_step X.here [X.here.top, hexec, hb, hdg, Int64.lt_irrefl]
      exact a
    · rw [if_neg h2] at a
      jvm_step X.here [X.here.top, hexec, hb, hdg, h, h2]
      exact a
end SL
/-- bit s of x as the class looks at it -/
def lbit (x : Int64) (s : Nat) : Bool := decide ((Int64.toUInt64 x >>> ((Int32.toInt64 (nI s)).toUInt64 &&& Int64.toUInt64 63)).toInt64 &&& 1 = 1)
