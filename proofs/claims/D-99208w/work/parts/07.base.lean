/-! BASE: pure glue for functions read off the code, the frame of a walk, static calls -/
theorem o_bind {α β : Type} {o : Option α} {f : α → Option β} {r : Option β} (h : o.bind f = r) (hr : ∃ z, r = some z) : ∃ v, o = some v ∧ f v = r := by
  cases o with
  | none => obtain ⟨z, hz⟩ := hr; rw [hz] at h; cases h
  | some v => exact ⟨v, rfl, h⟩
/-- two answers bound at once -/
def b2 {α β γ : Type} (o : Option (α × β)) (f : α → β → Option γ) : Option γ := o.bind fun q => f q.1 q.2
theorem b2_some {α β γ : Type} {o : Option (α × β)} {f : α → β → Option γ} {r : γ} (h : b2 o f = some r) : ∃ v x, o = some (v, x) ∧ f v x = some r := by
  cases o with
  | none => cases h
  | some q => exact ⟨q.1, q.2, rfl, h⟩
theorem b2_mk {α β γ : Type} (v : α) (x : β) (f : α → β → Option γ) : b2 (some (v, x)) f = f v x := rfl
theorem b1_some {α β : Type} {o : Option α} {f : α → Option β} {r : β} (h : o.bind f = some r) : ∃ v, o = some v ∧ f v = some r := by
  cases o with
  | none => cases h
  | some v => exact ⟨v, rfl, h⟩
/-- a named value -/
def lt {α β : Type} (v : α) (f : α → β) : β := f v
theorem it_p {α : Type} {c : Prop} {i : Decidable c} {a b r : α} (hc : c) (h : @ite α c i a b = r) : a = r := by rw [if_pos hc] at h; exact h
theorem it_n {α : Type} {c : Prop} {i : Decidable c} {a b r : α} (hc : ¬ c) (h : @ite α c i a b = r) : b = r := by rw [if_neg hc] at h; exact h
/-- a place of an array of n -/
def rd (n : Nat) (f : Nat → Int32) (i : Int32) : Option Int32 := if i < 0 ∨ n ≤ i.toNatClampNeg then none else some (f i.toNatClampNeg)
theorem rd_some {n : Nat} {f : Nat → Int32} {i v : Int32} (h : rd n f i = some v) : vp_in i n ∧ f i.toNatClampNeg = v := by
  unfold rd at h
  by_cases hc : i < 0 ∨ n ≤ i.toNatClampNeg
  · rw [if_pos hc] at h; cases h
  · rw [if_neg hc] at h; cases h; exact ⟨hc, rfl⟩
theorem rd_in {n : Nat} {f : Nat → Int32} {i : Int32} (h : vp_in i n) : rd n f i = some (f i.toNatClampNeg) := if_neg h
theorem rd_c {n : Nat} {f : Nat → Int32} {i : Int32} {j : Nat} (h : (decide (0 ≤ i) && (decide (j < n) && decide (i.toNatClampNeg = j))) = true) : rd n f i = some (f j) := by
  simp only [Bool.and_eq_true, decide_eq_true_eq] at h
  obtain ⟨h1, h2, h3⟩ := h
  rw [rd_in, h3]
  rintro (h | h)
  · exact absurd h1 (Int32.not_le.mpr h)
  · omega
theorem rd_nI {n j : Nat} {f : Nat → Int32} (h : j < n) (hn : n < 2 ^ 31) : rd n f (nI j) = some (f j) := by
  rw [rd_in (vp_in_nI h hn), nI_clamp (by omega)]
/-- the bit that a boolean answer keeps -/
def zb (v : Int32) : Int32 := v &&& 1
section GB
variable {p : Program} {l : Launch} {e : Env} {R : Room} {s : State} {m : MethodId} {args : Array Value} {below : List Frame} {meth : Method} {c : Code} {H : Heap} {locs : List Loc} {cells slots : Nat} {Q : State → Prop}
variable {cc : ByteArray} {pc : Nat} {ls : Array Slot} {rest : List Value}
/-- the frame of a walk: the machine, the code, its locals, its own type, the tables' words, its answer's type -/
def gC (p : Program) (s : State) (m : MethodId) (args : Array Value) (meth : Method) (c : Code) (cc : ByteArray) (nL : Nat) (own : String) (ret : Option FieldType) : Prop :=
  p.tables.exec = Jvm.exec ∧ c.code = cc ∧ c.maxLocals = nL ∧ s.vm.findClass own = some m.cls ∧ (∀ w ∈ lw_all, w.before args s = true) ∧ meth.sig.returnType = ret ∧ meth.locks = false
/-- a static method that touches no heap -/
def sQ (v : Option Value) : Array Value → State → Outcome → State → Prop := fun _ st o t => o = .returned v ∧ t.heap = st.heap
def sMet (l : Launch) (y : MethodName) (ws : List Cond) (rm : Room) (av : List Value) (v : Option Value) : Prop :=
  Met l y ws rm (va_Pc av (fun _ => True)) (sQ v) 0 0 (fun _ => False)
theorem va_Pc_blind {av : List Value} {B : State → Prop} (h : ∀ (a : Array Value) (U : State) (g : JFrame) (mk : MethodId), B U → B (U.calling g mk a)) : FrameBlind (va_Pc av B) := fun a U g mk q => ⟨q.1, h a U g mk q.2⟩
/-- what a callee's rows say, its link beside: an object's method -/
def cV (own : String) (index : Nat) (y : MethodName) (bytes : ByteArray) (maxL : Nat) (ret : Option FieldType) (n : Nat) : Prop :=
  GoodIn lw_all (wsV own index y.cls y (ws_ y bytes maxL ret)) ∧ y.cls ≠ "java/lang/invoke/MethodHandle" ∧ y.cls ≠ "java/lang/invoke/VarHandle" ∧ (parseMethodDescriptor y.desc).map (fun d => d.parameters.length) = some n
/-- the same of a static method -/
def cS (own : String) (index : Nat) (y : MethodName) (bytes : ByteArray) (maxL : Nat) (ret : Option FieldType) (n : Nat) : Prop :=
  GoodIn lw_all (va_wsS own index y (ws_ y bytes maxL ret)) ∧ y.cls ≠ "java/lang/invoke/MethodHandle" ∧ y.cls ≠ "java/lang/invoke/VarHandle" ∧ (parseMethodDescriptor y.desc).map (fun d => d.parameters.length) = some n
/-- the room of a callee within a caller's -/
abbrev cR (rm R : Room) (maxL : Nat) : Prop := rm.frames + 1 ≤ R.frames ∧ 8 + (maxL + 11) + rm.locals ≤ R.locals
theorem g_callS {α β : Type} {own : String} {index maxL nL n : Nat} {y : MethodName} {bytes : ByteArray} {ret ret0 : Option FieldType} {rm : Room} {As st0 : List Value} {mk : α → Option Value} {F : Option α} {f : α → Option β} {r : β}
    (C : gC p s m args meth c cc nL own ret0) (hf : F.bind f = some r) (hM : ∀ v, F = some v → sMet l y (ws_ y bytes maxL ret) rm As (mk v)) (cw : cS own index y bytes maxL ret n) (hz : rm.cells = 0 ∧ rm.slots = 0) (hR : cR rm R maxL)
    (hn : As.length = n) (hsize : ls.size = nL) (hst : st0 = As.reverse ++ rest) (hW : (rest.map fun v => v.category).sum ≤ 8) (hfit : cells ≤ R.cells ∧ slots ≤ R.slots) (hdg : decode cc pc = .ok (.invokestatic index, 3))
    (kk : ∀ v, f v = some r → W p l e R s m args below meth c H locs cells slots Q (F0 m (pc + 3) ls ((mk v).toList ++ rest))) : W p l e R s m args below meth c H locs cells slots Q (F0 m pc ls st0) := by
  obtain ⟨hx, hb, hml, hown, hts, -, -⟩ := C
  obtain ⟨v, hv, hk⟩ := b1_some hf
  have run := va_runS (l := l) (e := e) (R := R) (below := below) (meth := meth) (H := H) (locs := locs) (cells := cells) (slots := slots) (As := As) (rest := rest) (g := F0 m pc ls st0) (nL := nL) (Ts := lw_all) (index := index) (n := n) ⟨hx, hb, hml, hown, hts⟩ (hM v hv)
    (va_cwS n hts cw.1 rfl hz.1 hz.2 cw.2 hR) ⟨va_Pc_blind (fun _ _ _ _ _ => trivial), fun _ _ _ => ⟨rfl, trivial⟩⟩ rfl hn hsize hst (lv_room hW) hdg ⟨by omega, by omega⟩
  intro T hT X
  obtain ⟨w, st₀, t, T', L, h0, X', hL, e1, -, ⟨hw, hh⟩, st⟩ := run T hT X
  have hL0 : L = [] := by
    cases L with
    | nil => rfl
    | cons a b => exact absurd (hL a List.mem_cons_self) id
  subst hL0
  cases hw
  rw [List.append_nil] at X'
  obtain ⟨t2, a1, b1⟩ := kk v hk T' (by rw [e1, hh, h0]) X'
  exact ⟨t2, st t2 a1, b1⟩
theorem g_zret {Qc : Array Value → State → Outcome → State → Prop} {free : Addr → Prop} {v : Int32} (hexec : p.tables.exec = Jvm.exec) (hb : c.code = cc) (hr : meth.sig.returnType = some .boolean)
    (hq : ∀ t : State, t.heap = H → s.WarmedH t.vm → Qc args s (.returned (some (.int (zb v)))) t) (hf : ∀ q ∈ locs, free q.base)
    (hdg : decode cc pc = .ok (.ireturn, 1)) (hlocks : meth.locks = false) : W p l e R s m args below meth c H locs cells slots (MQ below Qc args s cells slots free) (F0 m pc ls [.int v]) := by
  intro T hT X
  obtain ⟨fs, hret, hrun, hended, hW, hframe⟩ := X.leave (v := some (.int (zb v))) (hlocks := hlocks) (fun h => by rw [hr] at h; cases h)
  have hmeth' : T.vm.method? m = some meth := X.method'
  refine ⟨T.setFrames fs, ?_, .returned (some (.int (zb v))), hrun, hended, hq _ hT hW, locs, ⟨⟨_, rfl⟩, hW, hframe⟩, hf⟩
  have hn : narrow .boolean (.int v) = .int (zb v) := rfl
  jvm_step X.here [X.here.top, hexec, hb, hdg, hmeth', hr, hn]
  (try refine ⟨rfl, ?_⟩); (try refine ⟨rfl, ?_⟩)
  first | (intro acts; rw [hret _ acts rfl rfl rfl]) | rw [hret _ _ rfl rfl rfl]
  exact Steps.refl _
theorem s_post {v : Option Value} : ∀ t : State, t.heap = s.heap → s.WarmedH t.vm → sQ v args s (.returned v) t := fun _ ht _ => ⟨rfl, ht⟩
theorem s_iret {v r : Int32} {nL : Nat} {own : String} (C : gC p s m args meth c cc nL own (some .int)) (hf : some v = some r) (hdg : decode cc pc = .ok (.ireturn, 1)) :
    W p l e R s m args below meth c s.heap [] 0 0 (MQ below (sQ (some (.int r))) args s 0 0 (fun _ => False)) (F0 m pc ls [.int v]) := by
  cases hf
  exact W.iret C.1 C.2.1 C.2.2.2.2.2.1 s_post (fun _ h => by cases h) hdg C.2.2.2.2.2.2
theorem s_lret {v r : Int64} {nL : Nat} {own : String} (C : gC p s m args meth c cc nL own (some .long)) (hf : some v = some r) (hdg : decode cc pc = .ok (.lreturn, 1)) :
    W p l e R s m args below meth c s.heap [] 0 0 (MQ below (sQ (some (.long r))) args s 0 0 (fun _ => False)) (F0 m pc ls [.long v]) := by
  cases hf
  exact W.lret C.1 C.2.1 C.2.2.2.2.2.1 s_post (fun _ h => by cases h) hdg C.2.2.2.2.2.2
theorem s_zret {v r : Int32} {nL : Nat} {own : String} (C : gC p s m args meth c cc nL own (some .boolean)) (hf : some (zb v) = some r) (hdg : decode cc pc = .ok (.ireturn, 1)) :
    W p l e R s m args below meth c s.heap [] 0 0 (MQ below (sQ (some (.int r))) args s 0 0 (fun _ => False)) (F0 m pc ls [.int v]) := by
  cases hf
  exact g_zret C.1 C.2.1 C.2.2.2.2.2.1 s_post (fun _ h => by cases h) hdg C.2.2.2.2.2.2
theorem g_ofW {y : MethodName} {ws ws' : List Cond} {rm : Room} {Pc : Array Value → State → Prop} {Qc : Array Value → State → Outcome → State → Prop} {mc ms : Nat} {free : Addr → Prop} {maxL : Nat} {ret : Option FieldType}
    (hy : plainFor y = true) (hw : ws = Cond.code y cc maxL ret :: ws')
    (body : ∀ p e s m args below meth c s₁, BodyLoose p l y (headSpec ws rm) cc maxL ret e s m args below meth c s₁ → c.maxLocals = maxL → Pc args s →
      W p l e (headSpec ws rm).room s m args below meth c s.heap [] 0 0 (MQ below Qc args s mc ms free) (entryFrame m args maxL)) : Met l y ws rm Pc Qc mc ms free := by
  refine MetFree.of_bodySF (code := cc) (maxLocals := maxL) (ret := ret) hy ?_ ?_
  · intro args s m h hn
    obtain ⟨meth, c, h1, h2, h3, h4, h5, h6, -, -⟩ := Cond.code_spec hn (atoms_spec (ws := ws) h _ (by rw [hw]; exact List.mem_cons_self))
    exact ⟨meth, c, h1, h2, h3, h4, h5, h6⟩
  · intro p e s m args below meth c s₁ B hml hP _
    have hh0 : s₁.heap = s.heap := by rw [B.state]; rfl
    obtain ⟨t, a1, o, b1, b2, b3⟩ := body p e s m args below meth c s₁ B hml hP s₁ hh0 (Stand.of_body B)
    exact ⟨t, o, a1, b1, b2, ⟨b3.1, b3.2⟩⟩
theorem s_start {y : MethodName} {rm : Room} {maxL : Nat} {ret : Option FieldType} {av : List Value} {v : Option Value} {lv : List (Nat × Value)} {own : String} (hy : plainFor y = true) (hcl : y.cls = own) (hlen : (lg_sl av).length ≤ maxL) (hlv : lv_args 0 av = lv)
    (body : ∀ (p : Program) (e : Env) (s : State) (m : MethodId) (args : Array Value) (below : List Frame) (meth : Method) (c : Code) (ls : Array Slot), gC p s m args meth c cc maxL own ret → lv_has ls maxL lv → W p l e rm s m args below meth c s.heap [] 0 0 (MQ below (sQ v) args s 0 0 (fun _ => False)) (F0 m 0 ls [])) :
    sMet l y (ws_ y cc maxL ret) rm av v := by
  refine g_ofW (cc := cc) (maxL := maxL) (ret := ret) hy rfl ?_
  intro p e s m args below meth c s₁ B hml hv
  obtain ⟨rfl, -⟩ := hv
  have hts := atoms_spec (ws := ws_ y cc maxL ret) B.pre
  have hown : s.vm.findClass own = some m.cls := by rw [← hcl]; exact findClass_of_methodNamed B.named
  have hl := lv_entry av (n := maxL) hlen
  rw [lg_entry_eq]
  subst hlv
  exact body p e s m _ below meth c _ ⟨B.exec, B.bytes, hml, hown, fun w h => hts w (List.mem_cons_of_mem _ h), B.returns, B.notSynchronized⟩ hl
/-- rows that read the function's branch -/
theorem b_ifeq {β : Type} {x : Int32} {off : Int} {tgt : Nat} {i : Decidable (x = 0)} {a b r : β} (hexec : p.tables.exec = Jvm.exec) (hb : c.code = cc) (hf : @ite β (x = 0) i a b = r) (hdg : decode cc pc = .ok (.ifCond .eq off, 3)) (ht : (pc : Int) + off = (tgt : Int)) (kt : a = r → W p l e R s m args below meth c H locs cells slots Q (F0 m tgt ls rest)) (kf : b = r → W p l e R s m args below meth c H locs cells slots Q (F0 m (pc + 3) ls rest)) : W p l e R s m args below meth c H locs cells slots Q (F0 m pc ls (.int x :: rest)) :=
  lv_if_eq hexec hb hdg ht (fun h => kt (it_p h hf)) (fun h => kf (it_n h hf))
theorem b_ifne {β : Type} {x : Int32} {off : Int} {tgt : Nat} {i : Decidable (x = 0)} {a b r : β} (hexec : p.tables.exec = Jvm.exec) (hb : c.code = cc) (hf : @ite β (x = 0) i b a = r) (hdg : decode cc pc = .ok (.ifCond .ne off, 3)) (ht : (pc : Int) + off = (tgt : Int)) (kt : a = r → W p l e R s m args below meth c H locs cells slots Q (F0 m tgt ls rest)) (kf : b = r → W p l e R s m args below meth c H locs cells slots Q (F0 m (pc + 3) ls rest)) : W p l e R s m args below meth c H locs cells slots Q (F0 m pc ls (.int x :: rest)) :=
  lv_if_ne hexec hb hdg ht (fun h => kt (it_n h hf)) (fun h => kf (it_p h hf))
theorem b_iflt {β : Type} {x : Int32} {off : Int} {tgt : Nat} {i : Decidable (x < 0)} {a b r : β} (hexec : p.tables.exec = Jvm.exec) (hb : c.code = cc) (hf : @ite β (x < 0) i a b = r) (hdg : decode cc pc = .ok (.ifCond .lt off, 3)) (ht : (pc : Int) + off = (tgt : Int)) (kt : a = r → W p l e R s m args below meth c H locs cells slots Q (F0 m tgt ls rest)) (kf : b = r → W p l e R s m args below meth c H locs cells slots Q (F0 m (pc + 3) ls rest)) : W p l e R s m args below meth c H locs cells slots Q (F0 m pc ls (.int x :: rest)) :=
  lv_if_lt hexec hb hdg ht (fun h => kt (it_p h hf)) (fun h => kf (it_n h hf))
theorem b_ifge {β : Type} {x : Int32} {off : Int} {tgt : Nat} {i : Decidable (0 ≤ x)} {a b r : β} (hexec : p.tables.exec = Jvm.exec) (hb : c.code = cc) (hf : @ite β (0 ≤ x) i a b = r) (hdg : decode cc pc = .ok (.ifCond .ge off, 3)) (ht : (pc : Int) + off = (tgt : Int)) (kt : a = r → W p l e R s m args below meth c H locs cells slots Q (F0 m tgt ls rest)) (kf : b = r → W p l e R s m args below meth c H locs cells slots Q (F0 m (pc + 3) ls rest)) : W p l e R s m args below meth c H locs cells slots Q (F0 m pc ls (.int x :: rest)) :=
  lv_if_ge hexec hb hdg ht (fun h => kt (it_p h hf)) (fun h => kf (it_n h hf))
theorem b_ifgt {β : Type} {x : Int32} {off : Int} {tgt : Nat} {i : Decidable (0 < x)} {a b r : β} (hexec : p.tables.exec = Jvm.exec) (hb : c.code = cc) (hf : @ite β (0 < x) i a b = r) (hdg : decode cc pc = .ok (.ifCond .gt off, 3)) (ht : (pc : Int) + off = (tgt : Int)) (kt : a = r → W p l e R s m args below meth c H locs cells slots Q (F0 m tgt ls rest)) (kf : b = r → W p l e R s m args below meth c H locs cells slots Q (F0 m (pc + 3) ls rest)) : W p l e R s m args below meth c H locs cells slots Q (F0 m pc ls (.int x :: rest)) :=
  lv_if_gt hexec hb hdg ht (fun h => kt (it_p h hf)) (fun h => kf (it_n h hf))
theorem b_ifle {β : Type} {x : Int32} {off : Int} {tgt : Nat} {i : Decidable (x ≤ 0)} {a b r : β} (hexec : p.tables.exec = Jvm.exec) (hb : c.code = cc) (hf : @ite β (x ≤ 0) i a b = r) (hdg : decode cc pc = .ok (.ifCond .le off, 3)) (ht : (pc : Int) + off = (tgt : Int)) (kt : a = r → W p l e R s m args below meth c H locs cells slots Q (F0 m tgt ls rest)) (kf : b = r → W p l e R s m args below meth c H locs cells slots Q (F0 m (pc + 3) ls rest)) : W p l e R s m args below meth c H locs cells slots Q (F0 m pc ls (.int x :: rest)) :=
  lv_if_le hexec hb hdg ht (fun h => kt (it_p h hf)) (fun h => kf (it_n h hf))
theorem b_iclt {β : Type} {x y : Int32} {off : Int} {tgt : Nat} {i : Decidable (x < y)} {a b r : β} (hexec : p.tables.exec = Jvm.exec) (hb : c.code = cc) (hf : @ite β (x < y) i a b = r) (hdg : decode cc pc = .ok (.if_icmp .lt off, 3)) (ht : (pc : Int) + off = (tgt : Int)) (kt : a = r → W p l e R s m args below meth c H locs cells slots Q (F0 m tgt ls rest)) (kf : b = r → W p l e R s m args below meth c H locs cells slots Q (F0 m (pc + 3) ls rest)) : W p l e R s m args below meth c H locs cells slots Q (F0 m pc ls (.int y :: .int x :: rest)) :=
  lv_icmp_lt hexec hb hdg ht (fun h => kt (it_p h hf)) (fun h => kf (it_n h hf))
theorem b_icge {β : Type} {x y : Int32} {off : Int} {tgt : Nat} {i : Decidable (y ≤ x)} {a b r : β} (hexec : p.tables.exec = Jvm.exec) (hb : c.code = cc) (hf : @ite β (y ≤ x) i a b = r) (hdg : decode cc pc = .ok (.if_icmp .ge off, 3)) (ht : (pc : Int) + off = (tgt : Int)) (kt : a = r → W p l e R s m args below meth c H locs cells slots Q (F0 m tgt ls rest)) (kf : b = r → W p l e R s m args below meth c H locs cells slots Q (F0 m (pc + 3) ls rest)) : W p l e R s m args below meth c H locs cells slots Q (F0 m pc ls (.int y :: .int x :: rest)) :=
  lv_icmp_ge hexec hb hdg ht (fun h => kt (it_p h hf)) (fun h => kf (it_n h hf))
theorem b_icgt {β : Type} {x y : Int32} {off : Int} {tgt : Nat} {i : Decidable (y < x)} {a b r : β} (hexec : p.tables.exec = Jvm.exec) (hb : c.code = cc) (hf : @ite β (y < x) i a b = r) (hdg : decode cc pc = .ok (.if_icmp .gt off, 3)) (ht : (pc : Int) + off = (tgt : Int)) (kt : a = r → W p l e R s m args below meth c H locs cells slots Q (F0 m tgt ls rest)) (kf : b = r → W p l e R s m args below meth c H locs cells slots Q (F0 m (pc + 3) ls rest)) : W p l e R s m args below meth c H locs cells slots Q (F0 m pc ls (.int y :: .int x :: rest)) :=
  lv_icmp_gt hexec hb hdg ht (fun h => kt (it_p h hf)) (fun h => kf (it_n h hf))
theorem b_icle {β : Type} {x y : Int32} {off : Int} {tgt : Nat} {i : Decidable (x ≤ y)} {a b r : β} (hexec : p.tables.exec = Jvm.exec) (hb : c.code = cc) (hf : @ite β (x ≤ y) i a b = r) (hdg : decode cc pc = .ok (.if_icmp .le off, 3)) (ht : (pc : Int) + off = (tgt : Int)) (kt : a = r → W p l e R s m args below meth c H locs cells slots Q (F0 m tgt ls rest)) (kf : b = r → W p l e R s m args below meth c H locs cells slots Q (F0 m (pc + 3) ls rest)) : W p l e R s m args below meth c H locs cells slots Q (F0 m pc ls (.int y :: .int x :: rest)) :=
  lv_icmp_le hexec hb hdg ht (fun h => kt (it_p h hf)) (fun h => kf (it_n h hf))
theorem b_iceq {β : Type} {x y : Int32} {off : Int} {tgt : Nat} {i : Decidable (x = y)} {a b r : β} (hexec : p.tables.exec = Jvm.exec) (hb : c.code = cc) (hf : @ite β (x = y) i a b = r) (hdg : decode cc pc = .ok (.if_icmp .eq off, 3)) (ht : (pc : Int) + off = (tgt : Int)) (kt : a = r → W p l e R s m args below meth c H locs cells slots Q (F0 m tgt ls rest)) (kf : b = r → W p l e R s m args below meth c H locs cells slots Q (F0 m (pc + 3) ls rest)) : W p l e R s m args below meth c H locs cells slots Q (F0 m pc ls (.int y :: .int x :: rest)) :=
  lv_icmp_eq hexec hb hdg ht (fun h => kt (it_p h hf)) (fun h => kf (it_n h hf))
theorem b_icne {β : Type} {x y : Int32} {off : Int} {tgt : Nat} {i : Decidable (x = y)} {a b r : β} (hexec : p.tables.exec = Jvm.exec) (hb : c.code = cc) (hf : @ite β (x = y) i b a = r) (hdg : decode cc pc = .ok (.if_icmp .ne off, 3)) (ht : (pc : Int) + off = (tgt : Int)) (kt : a = r → W p l e R s m args below meth c H locs cells slots Q (F0 m tgt ls rest)) (kf : b = r → W p l e R s m args below meth c H locs cells slots Q (F0 m (pc + 3) ls rest)) : W p l e R s m args below meth c H locs cells slots Q (F0 m pc ls (.int y :: .int x :: rest)) :=
  lv_icmp_ne hexec hb hdg ht (fun h => kt (it_n h hf)) (fun h => kf (it_p h hf))
/-- a division, where the function has it -/
def dv (x y : Int32) : Option Int32 := if y = 0 then none else some (x / y)
def rm_ (x y : Int32) : Option Int32 := if y = 0 then none else some (x - x / y * y)
def dvL (x y : Int64) : Option Int64 := if y = 0 then none else some (x / y)
theorem dv_some {x y v : Int32} (h : dv x y = some v) : ¬ y = 0 ∧ x / y = v := by
  unfold dv at h
  by_cases hc : y = 0
  · rw [if_pos hc] at h; cases h
  · rw [if_neg hc] at h; cases h; exact ⟨hc, rfl⟩
theorem rm_some {x y v : Int32} (h : rm_ x y = some v) : ¬ y = 0 ∧ x - x / y * y = v := by
  unfold rm_ at h
  by_cases hc : y = 0
  · rw [if_pos hc] at h; cases h
  · rw [if_neg hc] at h; cases h; exact ⟨hc, rfl⟩
theorem dvL_some {x y v : Int64} (h : dvL x y = some v) : ¬ y = 0 ∧ x / y = v := by
  unfold dvL at h
  by_cases hc : y = 0
  · rw [if_pos hc] at h; cases h
  · rw [if_neg hc] at h; cases h; exact ⟨hc, rfl⟩
theorem b_idiv {β : Type} {x y : Int32} {f : Int32 → Option β} {r : β} (hexec : p.tables.exec = Jvm.exec) (hb : c.code = cc) (hf : (dv x y).bind f = some r) (hdg : decode cc pc = .ok (.idiv, 1)) (kk : ∀ v, f v = some r → W p l e R s m args below meth c H locs cells slots Q (F0 m (pc + 1) ls (.int v :: rest))) : W p l e R s m args below meth c H locs cells slots Q (F0 m pc ls (.int y :: .int x :: rest)) := by
  obtain ⟨v, hv, hk⟩ := b1_some hf
  obtain ⟨hn, rfl⟩ := dv_some hv
  exact lv_idiv hexec hb hdg hn (kk _ hk)
theorem b_irem {β : Type} {x y : Int32} {f : Int32 → Option β} {r : β} (hexec : p.tables.exec = Jvm.exec) (hb : c.code = cc) (hf : (rm_ x y).bind f = some r) (hdg : decode cc pc = .ok (.irem, 1)) (kk : ∀ v, f v = some r → W p l e R s m args below meth c H locs cells slots Q (F0 m (pc + 1) ls (.int v :: rest))) : W p l e R s m args below meth c H locs cells slots Q (F0 m pc ls (.int y :: .int x :: rest)) := by
  obtain ⟨v, hv, hk⟩ := b1_some hf
  obtain ⟨hn, rfl⟩ := rm_some hv
  exact lv_irem hexec hb hdg hn (kk _ hk)
theorem b_ldiv {β : Type} {x y : Int64} {f : Int64 → Option β} {r : β} (hexec : p.tables.exec = Jvm.exec) (hb : c.code = cc) (hf : (dvL x y).bind f = some r) (hdg : decode cc pc = .ok (.ldiv, 1)) (kk : ∀ v, f v = some r → W p l e R s m args below meth c H locs cells slots Q (F0 m (pc + 1) ls (.long v :: rest))) : W p l e R s m args below meth c H locs cells slots Q (F0 m pc ls (.long y :: .long x :: rest)) := by
  obtain ⟨v, hv, hk⟩ := b1_some hf
  obtain ⟨hn, rfl⟩ := dvL_some hv
  exact lv_ldiv hexec hb hdg hn (kk _ hk)
/-- a switch: the function asks the cases in order -/
theorem b_tIn {β : Type} {dflt lo hi : Int} {offs : Array Int} {len j : Nat} {x k : Int32} {off : Int} {tgt : Nat} {i : Decidable (x = k)} {a b r : β} (hexec : p.tables.exec = Jvm.exec) (hb : c.code = cc) (hf : @ite β (x = k) i a b = r) (hdg : decode cc pc = .ok (.tableswitch dflt lo hi offs, len)) (hk : (decide (lo ≤ k.toInt) && (decide (k.toInt ≤ hi) && decide ((k.toInt - lo).toNat = j))) = true) (ho : offs[j]? = some off) (ht : (pc : Int) + off = (tgt : Int))
    (kt : a = r → W p l e R s m args below meth c H locs cells slots Q (F0 m tgt ls rest)) (kf : x ≠ k → b = r → W p l e R s m args below meth c H locs cells slots Q (F0 m pc ls (.int x :: rest))) : W p l e R s m args below meth c H locs cells slots Q (F0 m pc ls (.int x :: rest)) := by
  simp only [Bool.and_eq_true, decide_eq_true_eq] at hk
  by_cases h : x = k
  · subst h
    exact lv_tableIn hexec hb hdg (by omega) (by omega) (by rw [hk.2.2]; exact ho) ht (kt (it_p rfl hf))
  · exact kf h (it_n h hf)
theorem sw_ne {x k : Int32} (h : x ≠ k) : x.toInt ≠ k.toInt := fun e => h (Int32.toInt_inj.mp e)
end GB
