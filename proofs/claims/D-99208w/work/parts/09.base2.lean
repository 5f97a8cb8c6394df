/-! BASE 2: more glue -/
theorem lt_of {α β : Type} {v v0 : α} {f : α → Option β} {r : β} (hv : v = v0) (h : lt v0 f = some r) : f v = some r := by subst hv; exact h
theorem zb_0 : zb 0 = 0 := by decide +kernel
theorem zb_1 : zb 1 = 1 := by decide +kernel
/-- the shift without a sign -/
def ush (x y : Int32) : Int32 := (x.toUInt32 >>> (y.toUInt32 &&& Int32.toUInt32 31)).toInt32
section GB2
variable {p : Program} {l : Launch} {e : Env} {R : Room} {s : State} {m : MethodId} {args : Array Value} {below : List Frame} {meth : Method} {c : Code} {H : Heap} {locs : List Loc} {cells slots : Nat} {Q : State → Prop}
variable {cc : ByteArray} {pc nL : Nat} {ls : Array Slot} {rest : List Value}
theorem g_calliS {β : Type} {own : String} {index maxL n : Nat} {y : MethodName} {bytes : ByteArray} {ret ret0 : Option FieldType} {rm : Room} {As st0 : List Value} {F : Option Int32} {f : Int32 → Option β} {r : β}
    (C : gC p s m args meth c cc nL own ret0) (hf : F.bind f = some r) (hM : ∀ v, F = some v → sMet l y (ws_ y bytes maxL ret) rm As (some (.int v))) (cw : cS own index y bytes maxL ret n) (hz : rm.cells = 0 ∧ rm.slots = 0) (hR : cR rm R maxL)
    (hn : As.length = n) (hsize : ls.size = nL) (hst : st0 = As.reverse ++ rest) (hW : (rest.map fun v => v.category).sum ≤ 8) (hfit : cells ≤ R.cells ∧ slots ≤ R.slots) (hdg : decode cc pc = .ok (.invokestatic index, 3))
    (kk : ∀ v, f v = some r → W p l e R s m args below meth c H locs cells slots Q (F0 m (pc + 3) ls (.int v :: rest))) : W p l e R s m args below meth c H locs cells slots Q (F0 m pc ls st0) :=
  g_callS (mk := fun v => some (.int v)) C hf hM cw hz hR hn hsize hst hW hfit hdg kk
theorem g_calllS {β : Type} {own : String} {index maxL n : Nat} {y : MethodName} {bytes : ByteArray} {ret ret0 : Option FieldType} {rm : Room} {As st0 : List Value} {F : Option Int64} {f : Int64 → Option β} {r : β}
    (C : gC p s m args meth c cc nL own ret0) (hf : F.bind f = some r) (hM : ∀ v, F = some v → sMet l y (ws_ y bytes maxL ret) rm As (some (.long v))) (cw : cS own index y bytes maxL ret n) (hz : rm.cells = 0 ∧ rm.slots = 0) (hR : cR rm R maxL)
    (hn : As.length = n) (hsize : ls.size = nL) (hst : st0 = As.reverse ++ rest) (hW : (rest.map fun v => v.category).sum ≤ 8) (hfit : cells ≤ R.cells ∧ slots ≤ R.slots) (hdg : decode cc pc = .ok (.invokestatic index, 3))
    (kk : ∀ v, f v = some r → W p l e R s m args below meth c H locs cells slots Q (F0 m (pc + 3) ls (.long v :: rest))) : W p l e R s m args below meth c H locs cells slots Q (F0 m pc ls st0) :=
  g_callS (mk := fun v => some (.long v)) C hf hM cw hz hR hn hsize hst hW hfit hdg kk
theorem s_zretc {v v1 r : Int32} {own : String} (C : gC p s m args meth c cc nL own (some .boolean)) (hz : zb v = v1) (hf : some v1 = some r) (hdg : decode cc pc = .ok (.ireturn, 1)) :
    W p l e R s m args below meth c s.heap [] 0 0 (MQ below (sQ (some (.int r))) args s 0 0 (fun _ => False)) (F0 m pc ls [.int v]) := s_zret C (by rw [hz]; exact hf) hdg
theorem m_zretc {w : mO} {A : Nat → Prop} {x : MS} {v v1 r : Int32} {x1 : MS} (C : mC w A p s m args meth c cc nL (some .boolean)) (hI : mI w A x s.heap H locs) (hz : zb v = v1) (hf : some (v1, x) = some (r, x1)) (hdg : decode cc pc = .ok (.ireturn, 1)) :
    W p l e R s m args below meth c H locs 0 0 (MQ below (mQ w A (some (.int r)) x1) args s 0 0 A) (F0 m pc ls [.int v]) := m_zret C hI (by rw [hz]; exact hf) hdg
end GB2
