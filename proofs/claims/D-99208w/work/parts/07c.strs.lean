/-! THE STRING CONSTANTS: what both programs have of them; calls of String's own methods, which touch no heap -/
def stN : List Nat := [5, 5, 4, 4, 3, 6, 3, 5, 2, 4, 4, 2, 3, 5, 5, 5, 4, 5, 7, 5, 4, 2, 3, 3, 10]
def stB : List (List Int32) := [[114, 101, 97, 100, 121], [108, 101, 97, 118, 101], [103, 105, 118, 101], [99, 111, 115, 116], [97, 115, 107], [98, 114, 105, 100, 103, 101], [112, 97, 121], [112, 97, 112, 101, 114], [111, 110], [108, 105, 110, 107], [102, 114, 111, 109], [116, 111], [100, 97, 121], [112, 114, 105, 99, 101], [112, 117, 114, 115, 101], [119, 111, 114, 116, 104], [115, 108, 111, 119], [108, 105, 110, 107, 115], [98, 114, 105, 100, 103, 101, 100], [108, 97, 99, 107, 115], [119, 104, 101, 110], [111, 114], [97, 110, 100], [110, 111, 116], [59, 43, 45, 42, 47, 40, 41, 60, 61, 62]]
/-- the constants' addresses, their bytes', and what lies in one static of the JDK's that is only handed on -/
abbrev kO : Type := (Nat → Nat) × (Nat → Nat) × Value
def gE (k : kO) (A : Nat → Prop) (U : State) : Prop := vk_S 25 stN stB k.1 k.2.1 A U U.heap ∧ va_Z "java/lang/String" "COMPACT_STRINGS" "Z" (.int 1) A U U.heap ∧ va_Z "jdk/internal/util/Preconditions" "SIOOBE_FORMATTER" "Ljava/util/function/BiFunction;" k.2.2 A U U.heap ∧ (k.2.2 = .null ∨ ∃ q, k.2.2 = .ref q)
theorem gE.later {k : kO} {A : Nat → Prop} {s U : State} {H : Heap} {locs : List Loc} (h : gE k A s) (hS : va_S A s.heap H locs) (hU : U.heap = H) (hW : s.WarmedH U.vm) : gE k A U :=
  ⟨by rw [hU]; exact (h.1.kept hS.2.1).moved hW.alike, by rw [hU]; exact (h.2.1.kept hS.2.1).moved hW.alike, by rw [hU]; exact (h.2.2.1.kept hS.2.1).moved hW.alike, h.2.2.2⟩
theorem gE.same {k : kO} {A : Nat → Prop} {u U : State} (hh : U.heap = u.heap) (hv : U.vm = u.vm) (h : gE k A u) : gE k A U :=
  ⟨by rw [hh]; exact h.1.moved (by rw [hv]; exact Vm.Alike.refl _), by rw [hh]; exact h.2.1.moved (by rw [hv]; exact Vm.Alike.refl _), by rw [hh]; exact h.2.2.1.moved (by rw [hv]; exact Vm.Alike.refl _), h.2.2.2⟩
def jMet (l : Launch) (y : MethodName) (ws : List Cond) (rm : Room) (av : List Value) (k : kO) (A : Nat → Prop) (v : Option Value) : Prop :=
  Met l y ws rm (va_Pc av (gE k A)) (sQ v) 0 0 (fun _ => False)
theorem gE_blind {av : List Value} {k : kO} {A : Nat → Prop} : FrameBlind (va_Pc av (gE k A)) := va_Pc_blind fun _ _ _ _ h => gE.same rfl rfl h
/-- what a char keeps of an int -/
def zc (v : Int32) : Int32 := v.toUInt32.toUInt16.toUInt32.toInt32
section GJ
variable {p : Program} {l : Launch} {e : Env} {R : Room} {s : State} {m : MethodId} {args : Array Value} {below : List Frame} {meth : Method} {c : Code} {H : Heap} {locs : List Loc} {cells slots : Nat} {Q : State → Prop}
variable {cc : ByteArray} {pc nL : Nat} {ls : Array Slot} {rest : List Value} {k : kO} {A : Nat → Prop}
def jC (k : kO) (A : Nat → Prop) (p : Program) (s : State) (m : MethodId) (args : Array Value) (meth : Method) (c : Code) (cc : ByteArray) (nL : Nat) (own : String) (ret : Option FieldType) : Prop := gC p s m args meth c cc nL own ret ∧ gE k A s
theorem j_call {own : String} {index maxL n i : Nat} {y : MethodName} {bytes : ByteArray} {ret ret0 : Option FieldType} {rm : Room} {As st0 : List Value} {v : Option Value}
    (C : gC p s m args meth c cc nL own ret0) (hE : gE k A s) (hS : va_S A s.heap H locs) (hi : i < 25) (hM : jMet l y (ws_ y bytes maxL ret) rm (.ref (k.1 i) :: As) k A v) (hy : y.cls = "java/lang/String") (cw : cV own index y bytes maxL ret n) (hz : rm.cells = 0 ∧ rm.slots = 0) (hR : cR rm R maxL)
    (hn : As.length = n) (hsize : ls.size = nL) (hst : st0 = As.reverse ++ .ref (k.1 i) :: rest) (hW : (rest.map fun v => v.category).sum ≤ 8) (hfit : cells ≤ R.cells ∧ slots ≤ R.slots) (hdg : decode cc pc = .ok (.invokevirtual index, 3))
    (kk : W p l e R s m args below meth c H locs cells slots Q (F0 m (pc + 3) ls (v.toList ++ rest))) : W p l e R s m args below meth c H locs cells slots Q (F0 m pc ls st0) := by
  obtain ⟨hx, hb, hml, hown, hts, -, -⟩ := C
  have hrv := vk_recv hE.1 hi hS
  have run := va_runV (l := l) (e := e) (R := R) (below := below) (meth := meth) (H := H) (locs := locs) (cells := cells) (slots := slots) (As := As) (rest := rest) (g := F0 m pc ls st0) (nL := nL) (Ts := lw_all) (index := index) (n := n) (C := y.cls) ⟨hx, hb, hml, hown, hts⟩ hM
    (cwV n hts cw.1 rfl hz.1 hz.2 ⟨rfl, cw.2⟩ hR) ⟨gE_blind, by rw [hy]; exact hrv, fun U hU hW => ⟨rfl, hE.later hS hU hW⟩⟩ rfl hn hsize hst (lv_room hW) hdg ⟨by omega, by omega⟩
  intro T hT X
  obtain ⟨w, st₀, t, T', L, h0, X', hL, e1, -, ⟨hw, hh⟩, st⟩ := run T hT X
  have hL0 : L = [] := by
    cases L with
    | nil => rfl
    | cons a b => exact absurd (hL a List.mem_cons_self) id
  subst hL0
  cases hw
  rw [List.append_nil] at X'
  obtain ⟨t2, a1, b1⟩ := kk T' (by rw [e1, hh, h0]) X'
  exact ⟨t2, st t2 a1, b1⟩
theorem j_calli {β : Type} {own : String} {index maxL n i : Nat} {y : MethodName} {bytes : ByteArray} {ret ret0 : Option FieldType} {rm : Room} {As st0 : List Value} {F : Option Int32} {f : Int32 → Option β} {r : β}
    (C : gC p s m args meth c cc nL own ret0) (hE : gE k A s) (hS : va_S A s.heap H locs) (hi : i < 25) (hf : F.bind f = some r) (hM : ∀ v, F = some v → jMet l y (ws_ y bytes maxL ret) rm (.ref (k.1 i) :: As) k A (some (.int v))) (hy : y.cls = "java/lang/String") (cw : cV own index y bytes maxL ret n) (hz : rm.cells = 0 ∧ rm.slots = 0) (hR : cR rm R maxL)
    (hn : As.length = n) (hsize : ls.size = nL) (hst : st0 = As.reverse ++ .ref (k.1 i) :: rest) (hW : (rest.map fun v => v.category).sum ≤ 8) (hfit : cells ≤ R.cells ∧ slots ≤ R.slots) (hdg : decode cc pc = .ok (.invokevirtual index, 3))
    (kk : ∀ v, f v = some r → W p l e R s m args below meth c H locs cells slots Q (F0 m (pc + 3) ls (.int v :: rest))) : W p l e R s m args below meth c H locs cells slots Q (F0 m pc ls st0) := by
  obtain ⟨v, hv, hk⟩ := b1_some hf
  exact j_call C hE hS hi (hM v hv) hy cw hz hR hn hsize hst hW hfit hdg (kk v hk)
theorem j_callS {α β : Type} {own : String} {index maxL n : Nat} {y : MethodName} {bytes : ByteArray} {ret ret0 : Option FieldType} {rm : Room} {As st0 : List Value} {mk : α → Option Value} {F : Option α} {f : α → Option β} {r : β}
    (C : gC p s m args meth c cc nL own ret0) (hE : gE k A s) (hS : va_S A s.heap H locs) (hf : F.bind f = some r) (hM : ∀ v, F = some v → jMet l y (ws_ y bytes maxL ret) rm As k A (mk v)) (cw : cS own index y bytes maxL ret n) (hz : rm.cells = 0 ∧ rm.slots = 0) (hR : cR rm R maxL)
    (hn : As.length = n) (hsize : ls.size = nL) (hst : st0 = As.reverse ++ rest) (hW : (rest.map fun v => v.category).sum ≤ 8) (hfit : cells ≤ R.cells ∧ slots ≤ R.slots) (hdg : decode cc pc = .ok (.invokestatic index, 3))
    (kk : ∀ v, f v = some r → W p l e R s m args below meth c H locs cells slots Q (F0 m (pc + 3) ls ((mk v).toList ++ rest))) : W p l e R s m args below meth c H locs cells slots Q (F0 m pc ls st0) := by
  obtain ⟨hx, hb, hml, hown, hts, -, -⟩ := C
  obtain ⟨v, hv, hk⟩ := b1_some hf
  have run := va_runS (l := l) (e := e) (R := R) (below := below) (meth := meth) (H := H) (locs := locs) (cells := cells) (slots := slots) (As := As) (rest := rest) (g := F0 m pc ls st0) (nL := nL) (Ts := lw_all) (index := index) (n := n) ⟨hx, hb, hml, hown, hts⟩ (hM v hv)
    (va_cwS n hts cw.1 rfl hz.1 hz.2 cw.2 hR) ⟨gE_blind, fun U hU hW => ⟨rfl, hE.later hS hU hW⟩⟩ rfl hn hsize hst (lv_room hW) hdg ⟨by omega, by omega⟩
  intro T hT X
  obtain ⟨w, st₀, t, T', L, h0, X', hL, e1, -, ⟨hw, hh⟩, st⟩ := run T hT X
  have hL0 : L = [] := by
    cases L with
    | nil => rfl
    | cons a b => exact absurd (hL a List.mem_cons_self) id
  subst hL0
  cases hw
  rw [List.append_nil] at X'
  obtain ⟨t2, a1, b1⟩ := kk v hk T' (by rw [e1, hh, h0]) X'
  exact ⟨t2, st t2 a1, b1⟩
theorem j_start {y : MethodName} {rm : Room} {maxL : Nat} {ret : Option FieldType} {av : List Value} {v : Option Value} {lv : List (Nat × Value)} {own : String} (hy : plainName y.cls = true) (hcl : y.cls = own) (hlen : (lg_sl av).length ≤ maxL) (hlv : lv_args 0 av = lv)
    (body : ∀ (p : Program) (e : Env) (s : State) (m : MethodId) (args : Array Value) (below : List Frame) (meth : Method) (c : Code) (ls : Array Slot), jC k A p s m args meth c cc maxL own ret → lv_has ls maxL lv → W p l e rm s m args below meth c s.heap [] 0 0 (MQ below (sQ v) args s 0 0 (fun _ => False)) (F0 m 0 ls [])) :
    jMet l y (ws_ y cc maxL ret) rm av k A v := by
  refine Met.ofW (cc := cc) (maxL := maxL) (ret := ret) hy rfl ?_
  intro p e s m args below meth c s₁ B hml hv
  obtain ⟨rfl, hE⟩ := hv
  have hts := atoms_spec (ws := ws_ y cc maxL ret) B.pre
  have hown : s.vm.findClass own = some m.cls := by rw [← hcl]; exact findClass_of_methodNamed B.named
  have hl := lv_entry av (n := maxL) hlen
  rw [lg_entry_eq]
  subst hlv
  exact body p e s m _ below meth c _ ⟨⟨B.exec, B.bytes, hml, hown, fun w h => hts w (List.mem_cons_of_mem _ h), B.returns, B.notSynchronized⟩, hE⟩ hl
/-- String's fields, an array of its bytes -/
theorem j_value {i : Nat} (hx : p.tables.exec = Jvm.exec) (hb : c.code = cc) (hown : s.vm.findClass "java/lang/String" = some m.cls) (hts : ∀ w ∈ lw_all, w.before args s = true) (hE : gE k A s) (hS : va_S A s.heap H locs) (hi : i < 25) (hdg : decode cc pc = .ok (.getfield 9, 3))
    (kk : W p l e R s m args below meth c H locs cells slots Q (F0 m (pc + 3) ls (.ref (k.2.1 i) :: rest))) : W p l e R s m args below meth c H locs cells slots Q (F0 m pc ls (.ref (k.1 i) :: rest)) :=
  vk_getf hx hb (hE.1.1 i hi).2.2.1 hS hown (hts _ q2014) (fun _ h => h) hdg kk
theorem j_coder {i : Nat} (hx : p.tables.exec = Jvm.exec) (hb : c.code = cc) (hown : s.vm.findClass "java/lang/String" = some m.cls) (hts : ∀ w ∈ lw_all, w.before args s = true) (hE : gE k A s) (hS : va_S A s.heap H locs) (hi : i < 25) (hdg : decode cc pc = .ok (.getfield 15, 3))
    (kk : W p l e R s m args below meth c H locs cells slots Q (F0 m (pc + 3) ls (.int 0 :: rest))) : W p l e R s m args below meth c H locs cells slots Q (F0 m pc ls (.ref (k.1 i) :: rest)) :=
  vk_getf hx hb (hE.1.1 i hi).2.1 hS hown (hts _ q2015) (fun _ h => h) hdg kk
theorem j_blen {i : Nat} (hx : p.tables.exec = Jvm.exec) (hb : c.code = cc) (hE : gE k A s) (hS : va_S A s.heap H locs) (hi : i < 25) (hdg : decode cc pc = .ok (.arraylength, 1))
    (kk : W p l e R s m args below meth c H locs cells slots Q (F0 m (pc + 1) ls (.int (nI (stN.getD i 0)) :: rest))) : W p l e R s m args below meth c H locs cells slots Q (F0 m pc ls (.ref (k.2.1 i) :: rest)) :=
  va_tlen hx hb (hE.1.1 i hi).2.2.2 hS rfl hdg kk
theorem j_bald {β : Type} {i : Nat} {j : Int32} {f : Int32 → Option β} {r : β} (hx : p.tables.exec = Jvm.exec) (hb : c.code = cc) (hE : gE k A s) (hS : va_S A s.heap H locs) (hi : i < 25) (hf : (rd (stN.getD i 0) (fun j => (stB.getD i []).getD j 0) j).bind f = some r) (hdg : decode cc pc = .ok (.baload, 1))
    (kk : ∀ v, f v = some r → W p l e R s m args below meth c H locs cells slots Q (F0 m (pc + 1) ls (.int v :: rest))) : W p l e R s m args below meth c H locs cells slots Q (F0 m pc ls (.int j :: .ref (k.2.1 i) :: rest)) := by
  obtain ⟨v, hv, hk⟩ := b1_some hf
  obtain ⟨hin, he⟩ := rd_some hv
  exact va_tb hx hb (hE.1.1 i hi).2.2.2 hS hin (congrArg Value.int he) hdg (kk _ hk)
theorem g_cret {Qc : Array Value → State → Outcome → State → Prop} {free : Addr → Prop} {v : Int32} (hexec : p.tables.exec = Jvm.exec) (hb : c.code = cc) (hr : meth.sig.returnType = some .char)
    (hq : ∀ t : State, t.heap = H → s.WarmedH t.vm → Qc args s (.returned (some (.int (zc v)))) t) (hf : ∀ q ∈ locs, free q.base)
    (hdg : decode cc pc = .ok (.ireturn, 1)) (hlocks : meth.locks = false) : W p l e R s m args below meth c H locs cells slots (MQ below Qc args s cells slots free) (F0 m pc ls [.int v]) := by
  intro T hT X
  obtain ⟨fs, hret, hrun, hended, hW, hframe⟩ := X.leave (v := some (.int (zc v))) (hlocks := hlocks) (fun h => by rw [hr] at h; cases h)
  have hmeth' : T.vm.method? m = some meth := X.method'
  refine ⟨T.setFrames fs, ?_, .returned (some (.int (zc v))), hrun, hended, hq _ hT hW, locs, ⟨⟨_, rfl⟩, hW, hframe⟩, hf⟩
  have hn : narrow .char (.int v) = .int (zc v) := rfl
  jvm_step X.here [X.here.top, hexec, hb, hdg, hmeth', hr, hn]
  (try refine ⟨rfl, ?_⟩); (try refine ⟨rfl, ?_⟩)
  first | (intro acts; rw [hret _ acts rfl rfl rfl]) | rw [hret _ _ rfl rfl rfl]
  exact Steps.refl _
theorem s_cret {v r : Int32} {own : String} (C : gC p s m args meth c cc nL own (some .char)) (hf : some (zc v) = some r) (hdg : decode cc pc = .ok (.ireturn, 1)) :
    W p l e R s m args below meth c s.heap [] 0 0 (MQ below (sQ (some (.int r))) args s 0 0 (fun _ => False)) (F0 m pc ls [.int v]) := by
  cases hf
  exact g_cret C.1 C.2.1 C.2.2.2.2.2.1 s_post (fun _ h => by cases h) hdg C.2.2.2.2.2.2
theorem s_bret {v r : Int32} {own : String} (C : gC p s m args meth c cc nL own (some .byte)) (hv : v = 0) (hf : some v = some r) (hdg : decode cc pc = .ok (.ireturn, 1)) :
    W p l e R s m args below meth c s.heap [] 0 0 (MQ below (sQ (some (.int r))) args s 0 0 (fun _ => False)) (F0 m pc ls [.int v]) := by
  subst hv
  cases hf
  exact W.zret C.1 C.2.1 C.2.2.2.2.2.1 (ty := .byte) rfl s_post (fun _ h => by cases h) hdg C.2.2.2.2.2.2
theorem s_vret {own : String} (C : gC p s m args meth c cc nL own none) (hdg : decode cc pc = .ok (.return_, 1)) :
    W p l e R s m args below meth c s.heap [] 0 0 (MQ below (sQ none) args s 0 0 (fun _ => False)) (F0 m pc ls []) :=
  W.vret C.1 C.2.1 C.2.2.2.2.2.1 s_post (fun _ h => by cases h) hdg C.2.2.2.2.2.2
end GJ
