/-! CONSTRUCTORS, AND METHODS THAT MAY THROW -/
set_option maxRecDepth 100000
theorem fitC_some {v v1 : Int32} (h : fitC v = some v1) : v1 = v ∧ narrow .char (.int v) = .int v ∧ fits .char (.int v) = true := by
  unfold fitC at h
  by_cases hc : zc v = v ∧ fits .char (.int v) = true
  · rw [if_pos hc] at h
    refine ⟨(Option.some.inj h).symm, ?_, hc.2⟩
    have : narrow .char (.int v) = .int (zc v) := rfl
    rw [this, hc.1]
  · rw [if_neg hc] at h; cases h
/-- what a method answers that may throw: where the fault lies, or its value -/
abbrev XR (α : Type) : Type := (Nat ⊕ α) × TS
def bx {α β : Type} (F : Option (XR α)) (f : α → TS → Option (XR β)) : Option (XR β) := match F with
  | some (.inl q, x) => some (.inl q, x)
  | some (.inr v, x) => f v x
  | none => none
def xQc (w : tO) (A : Nat → Prop) (B : Nat × Nat) (r : Nat ⊕ Option Value) (x1 : TS) : Array Value → State → Outcome → State → Prop := fun a st o t => match r with
  | .inl _ => False
  | .inr v => tQ w A B v x1 a st o t
def xXc (w : tO) (A : Nat → Prop) (B : Nat × Nat) (r : Nat ⊕ Option Value) (x1 : TS) : Addr → String → State → State → Prop := fun q E st t => match r with
  | .inl q0 => q = q0 ∧ E = "TwelveChain$Fault" ∧ tQ w A B none x1 #[] st (.returned none) t
  | .inr _ => False
def xMet (l : Launch) (y : MethodName) (ws : List Cond) (fr lo : Nat) (av : List Value) (w : tO) (A : Nat → Prop) (B : Nat × Nat) (x : TS) (r : Nat ⊕ Option Value) (x1 : TS) : Prop :=
  vx_Met l y ws (tRm B fr lo (tZ x) (tY x)) (va_Pc av (tB w A B x)) (xQc w A B r x1) (xXc w A B r x1) (B.1 - tZ x) (B.2 - tY x) A
abbrev xMQ (below : List Frame) (w : tO) (A : Nat → Prop) (B : Nat × Nat) (r : Nat ⊕ Option Value) (x1 : TS) (args : Array Value) (s : State) : State → Prop := vx_MQ below (xQc w A B r x1) (xXc w A B r x1) args s (B.1 - s.heap.size) (B.2 - SL s.heap) A
abbrev mv (r : Nat ⊕ Unit) : Nat ⊕ Option Value := match r with
  | .inl q => .inl q
  | .inr _ => .inr none
abbrev mi (r : Nat ⊕ Int32) : Nat ⊕ Option Value := match r with
  | .inl q => .inl q
  | .inr v => .inr (some (.int v))
abbrev ma (r : Nat ⊕ Nat) : Nat ⊕ Option Value := match r with
  | .inl q => .inl q
  | .inr v => .inr (some (.ref v))
section TG
variable {p : Program} {l : Launch} {e : Env} {R : Room} {s : State} {m : MethodId} {args : Array Value} {below : List Frame} {meth : Method} {c : Code} {H : Heap} {locs : List Loc} {Q : State → Prop}
variable {cc : ByteArray} {pc nL cells slots fr lo : Nat} {ls : Array Slot} {rest : List Value} {w : tO} {A : Nat → Prop} {B : Nat × Nat} {x : TS} {ret0 : Option FieldType} {own : String}
/-- calls of constructors -/
theorem t_cIv {β : Type} {index maxL n fr1 lo1 b : Nat} {y : MethodName} {bytes : ByteArray} {As st0 : List Value} {F : Option TS} {f : TS → Option β} {r : β} (C : tCx w A p s m args meth c cc nL own ret0) (hI : tI w A B x s.heap H locs) (hf : Option.bind F f = some r) (hM : ∀ x1, F = some x1 → tMet l y (ws_ y bytes maxL none) fr1 lo1 (.ref b :: As) w A B x none x1) (hy1 : y.name = "<init>") (hin : Cond.instanceMethod y ∈ lw_all) (hl : Cond.methodLink own index y ∈ lw_all) (cw : cN y bytes maxL none n) (hR : fr1 + 1 ≤ fr ∧ 8 + (maxL + 11) + lo1 ≤ lo)
    (hn : As.length = n) (hsize : ls.size = nL) (hst : st0 = As.reverse ++ .ref b :: rest) (hW : (rest.map fun v => v.category).sum ≤ 8) (hdg : decode cc pc = .ok (.invokespecial index, 3))
    (kk : ∀ x1 H locs, tI w A B x1 s.heap H locs → f x1 = some r → W p l e (tRm B fr lo s.heap.size (SL s.heap)) s m args below meth c H locs (tZ x1 - s.heap.size) (tY x1 - SL s.heap) Q (F0 m (pc + 3) ls rest)) : W p l e (tRm B fr lo s.heap.size (SL s.heap)) s m args below meth c H locs (tZ x - s.heap.size) (tY x - SL s.heap) Q (F0 m pc ls st0) := by
  obtain ⟨x1, hv, hk⟩ := b1_some hf
  exact t_callI0 C hI (hM x1 hv) hy1 hin hl cw hR hn hsize hst hW hdg (fun H locs hI1 => kk x1 H locs hI1 hk)
theorem t_cINv {β : Type} {index maxL n fr1 lo1 b : Nat} {y : MethodName} {bytes : ByteArray} {As st0 : List Value} {F : Option TS} {f : TS → Option β} {r : β} (C : tCx w A p s m args meth c cc nL own ret0) (hI : tI w A B x s.heap H locs) (hf : Option.bind F f = some r) (hM : ∀ x1, F = some x1 → tMet l y (ws_ y bytes maxL none) fr1 lo1 (.ref b :: As) w A B x none x1) (hy1 : y.name = "<init>") (hin : Cond.instanceMethod y ∈ lw_all) (hl : (own, index, y, "TwelveChain") ∈ nM) (cw : cN y bytes maxL none n) (hR : fr1 + 1 ≤ fr ∧ 8 + (maxL + 11) + lo1 ≤ lo)
    (hn : As.length = n) (hsize : ls.size = nL) (hst : st0 = As.reverse ++ .ref b :: rest) (hW : (rest.map fun v => v.category).sum ≤ 8) (hdg : decode cc pc = .ok (.invokespecial index, 3))
    (kk : ∀ x1 H locs, tI w A B x1 s.heap H locs → f x1 = some r → W p l e (tRm B fr lo s.heap.size (SL s.heap)) s m args below meth c H locs (tZ x1 - s.heap.size) (tY x1 - SL s.heap) Q (F0 m (pc + 3) ls rest)) : W p l e (tRm B fr lo s.heap.size (SL s.heap)) s m args below meth c H locs (tZ x - s.heap.size) (tY x - SL s.heap) Q (F0 m pc ls st0) := by
  obtain ⟨x1, hv, hk⟩ := b1_some hf
  exact t_callIN0 C hI (hM x1 hv) hy1 hin hl cw hR hn hsize hst hW hdg (fun H locs hI1 => kk x1 H locs hI1 hk)
/-! what may throw -/
theorem vW.tight {g : JFrame} {q k n : Nat} (h1 : H.size ≤ s.heap.size + k) (h2 : SL H ≤ SL s.heap + n) (kk : vx_W p l e R s m args below meth c H locs k n Q g q) : vx_W p l e R s m args below meth c H locs cells slots Q g q := by
  intro T hT X
  refine kk T hT { X with same := ?_ }
  obtain ⟨q1, q2, q3, q4, q5, q6⟩ := X.same
  have hh : (T.setVm s.vm).heap = H := hT
  refine ⟨q1, q2, by rw [hh]; exact h1, q4, ?_, q6⟩
  have := list_split (l := s.heap.toList) (l2 := (T.setVm s.vm).heap.toList) (by simpa using q2) (fun i cl hi => by
    obtain ⟨c', x1, -, x3, -⟩ := q6 i cl (by simpa using hi)
    exact ⟨c', by simpa using x1, x3⟩)
  unfold SL at h2
  rw [hh] at this ⊢
  rw [this] at h2
  simp only [Array.length_toList] at h2
  omega
theorem tq_in {v : Option Value} {x1 : TS} {a : Array Value} {st₀ t T' : State} {L : List Loc} {o : Outcome} (hI : tI w A B x s.heap H locs) (h0 : st₀.heap = H) (e1 : T'.heap = t.heap) (hL : ∀ q ∈ L, A q.base) (hq : tQ w A B v x1 a st₀ o t) : tI w A B x1 s.heap T'.heap (locs ++ L) := by
  obtain ⟨-, hP1, hD1, hF, hs1, hs2, hs3, hs4, hs5, hs6⟩ := hq
  have hS := hI.2.2.1
  have hF1 : H.size ≤ t.heap.size ∧ ∀ q : Nat, q < H.size → ¬ A q → t.heap[q]? = H[q]? := by
    obtain ⟨f1, f2⟩ := hF
    rw [h0] at f1 f2
    exact ⟨f1, f2⟩
  rw [h0] at hs6
  have hzz : tZ x ≤ tZ x1 := by rw [← hI.2.2.2.1, ← hs1]; exact hF1.1
  exact ⟨by rw [e1]; exact hP1, hD1, ⟨Nat.le_trans hS.1 (by rw [e1]; exact hF1.1), fun q h1 h2 => by rw [e1, hF1.2 q (Nat.lt_of_lt_of_le h1 hS.1) h2]; exact hS.2.1 q h1 h2, fun q hq => by
      rcases List.mem_append.mp hq with h | h
      · exact hS.2.2 q h
      · exact hL q h⟩, by rw [e1]; exact hs1, by rw [e1]; exact hs2, hs3, ⟨hs4, Nat.le_trans hI.2.2.2.2.2.2.1.2 (by rw [← hI.2.2.2.2.1]; exact hs6)⟩, fun q hq => hI.2.2.2.2.2.2.2.1 q (Nat.le_trans hzz hq), ⟨hI.2.2.2.2.2.2.2.2.1.1, hs5⟩, hI.2.2.2.2.2.2.2.2.2⟩
def flt (s : State) (H : Heap) (q : Nat) : Prop := ∃ ce : Cell, H[q]? = some ce ∧ ce.vm = .none ∧ s.vm.findClass "TwelveChain$Fault" = some ce.cls
theorem x_back {st0 : List Value} {r1 : Nat ⊕ Option Value} {x1 : TS} {a : Array Value} (hI : tI w A B x s.heap H locs) (run : vx_Run p l e R s m args below meth c H locs cells slots (B.1 - tZ x) (B.2 - tY x) (F0 m pc ls st0) rest (xQc w A B r1 x1 a) (xXc w A B r1 x1) A)
    (kx : ∀ q, r1 = .inl q → ∀ H locs, tI w A B x1 s.heap H locs → flt s H q → vx_W p l e R s m args below meth c H locs (tZ x1 - s.heap.size) (tY x1 - SL s.heap) Q (F0 m pc ls rest) q)
    (kk : ∀ v, r1 = .inr v → ∀ H locs, tI w A B x1 s.heap H locs → W p l e R s m args below meth c H locs (tZ x1 - s.heap.size) (tY x1 - SL s.heap) Q (F0 m (pc + 3) ls (v.toList ++ rest))) : W p l e R s m args below meth c H locs cells slots Q (F0 m pc ls st0) := by
  intro T hT X
  rcases run T hT X with ⟨v, st₀, t, T', L, h0, X', hL, e1, e2, hq, st⟩ | ⟨q, st₀, t, T', L, E, ce, h0, X', hL, e1, e2, hq, hce, hcv, hcl, st⟩
  · cases r1 with
    | inl q => exact absurd hq id
    | inr v0 =>
      have hq1 : tQ w A B v0 x1 a st₀ (.returned v) t := hq
      have hv : v = v0 := by have := hq1.1; cases this; rfl
      subst hv
      have hI1 := tq_in hI h0 e1 hL hq1
      obtain ⟨t2, a1, b1⟩ := t_tight hI1 (kk _ rfl T'.heap (locs ++ L) hI1) T' rfl X'
      exact ⟨t2, st t2 a1, b1⟩
  · cases r1 with
    | inr v0 => exact absurd hq id
    | inl q0 =>
      have hq1 : q = q0 ∧ E = "TwelveChain$Fault" ∧ tQ w A B none x1 #[] st₀ (.returned none) t := hq
      obtain ⟨hqq, hE, hq1⟩ := hq1
      subst hqq hE
      have hI1 := tq_in hI h0 e1 hL hq1
      have h1 := hI1.2.2.1.1
      have h3 := hI1.2.2.2.1
      have h4 := hI1.2.2.2.2.1
      obtain ⟨t2, a1, b1⟩ := vW.tight (by omega) (by omega) (kx _ rfl T'.heap (locs ++ L) hI1 ⟨ce, by rw [e1]; exact hce, hcv, hcl⟩) T' rfl X'
      exact ⟨t2, st.trans a1, b1⟩
theorem t_post0 {v : Option Value} {a : Array Value} {t : State} (hI : tI w A B x s.heap H locs) (ht : t.heap = H) : tQ w A B v x a s (.returned v) t :=
  ⟨rfl, by rw [ht]; exact hI.1, hI.2.1, hI.2.2.1.F ht, by rw [ht]; exact hI.2.2.2.1, by rw [ht]; exact hI.2.2.2.2.1, hI.2.2.2.2.2.1, hI.2.2.2.2.2.2.1.1, hI.2.2.2.2.2.2.2.2.1.2, hI.2.2.2.2.2.2.1.2⟩
/-- it goes on to the caller -/
theorem x_out {q : Nat} (C : tCx w A p s m args meth c cc nL own ret0) (hxt : ∀ z ∈ c.exceptionTable.toList, False) (hI : tI w A B x s.heap H locs) (hq : flt s H q) :
    vx_W p l e (tRm B fr lo s.heap.size (SL s.heap)) s m args below meth c H locs (tZ x - s.heap.size) (tY x - SL s.heap) (xMQ below w A B (.inl q) x args s) (F0 m pc ls rest) q := by
  obtain ⟨ce, h1, h2, h3⟩ := hq
  have h6 := hI.2.2.2.2.2.1
  have h7 := hI.2.2.2.2.2.2.1.1
  exact vx_out (fun z hz => (hxt z hz).elim) C.1.2.2.2.2.2.2 h1 h2 h3 (fun t ht _ => ⟨rfl, rfl, t_post0 hI ht⟩) hI.2.2.1.2.2 (by omega) (by omega)
theorem x_iret {v : Int32} {r : Nat ⊕ Int32} {x1 : TS} (C : tCx w A p s m args meth c cc nL own (some .int)) (hI : tI w A B x s.heap H locs) (hf : some (Sum.inr v, x) = some (r, x1)) (hdg : decode cc pc = .ok (.ireturn, 1)) :
    W p l e (tRm B fr lo s.heap.size (SL s.heap)) s m args below meth c H locs (tZ x - s.heap.size) (tY x - SL s.heap) (xMQ below w A B (mi r) x1 args s) (F0 m pc ls [.int v]) := by
  cases hf
  exact vx_ret (t_iret C hI rfl hdg)
theorem x_vret {r : Nat ⊕ Unit} {x1 : TS} (C : tCx w A p s m args meth c cc nL own none) (hI : tI w A B x s.heap H locs) (hf : some (Sum.inr (), x) = some (r, x1)) (hdg : decode cc pc = .ok (.return_, 1)) :
    W p l e (tRm B fr lo s.heap.size (SL s.heap)) s m args below meth c H locs (tZ x - s.heap.size) (tY x - SL s.heap) (xMQ below w A B (mv r) x1 args s) (F0 m pc ls []) := by
  cases hf
  exact vx_ret (t_vret C hI rfl hdg)
theorem x_aret {q : Nat} {nm : String} {r : Nat ⊕ Nat} {x1 : TS} (C : tCx w A p s m args meth c cc nL own (some (.object nm))) (hI : tI w A B x s.heap H locs) (hf : some (Sum.inr q, x) = some (r, x1)) (hdg : decode cc pc = .ok (.areturn, 1)) :
    W p l e (tRm B fr lo s.heap.size (SL s.heap)) s m args below meth c H locs (tZ x - s.heap.size) (tY x - SL s.heap) (xMQ below w A B (ma r) x1 args s) (F0 m pc ls [.ref q]) := by
  cases hf
  exact vx_ret (t_aret C hI rfl hdg)
theorem x_aretA {q : Nat} {ty : FieldType} {r : Nat ⊕ Nat} {x1 : TS} (C : tCx w A p s m args meth c cc nL own (some (.array ty))) (hI : tI w A B x s.heap H locs) (hf : some (Sum.inr q, x) = some (r, x1)) (hdg : decode cc pc = .ok (.areturn, 1)) :
    W p l e (tRm B fr lo s.heap.size (SL s.heap)) s m args below meth c H locs (tZ x - s.heap.size) (tY x - SL s.heap) (xMQ below w A B (ma r) x1 args s) (F0 m pc ls [.ref q]) := by
  cases hf
  exact vx_ret (t_aretA C hI rfl hdg)
/-- a fault thrown here -/
theorem x_athrow {α : Type} {q : Nat} {mk : Nat ⊕ α → Nat ⊕ Option Value} {r : Nat ⊕ α} {x1 : TS} (hmk : ∀ q, mk (.inl q) = .inl q) (C : tCx w A p s m args meth c cc nL own ret0) (hxt : ∀ z ∈ c.exceptionTable.toList, False) (hI : tI w A B x s.heap H locs) (hf : gO x q 4 (some (Sum.inl q, x)) = some (r, x1)) (hdg : decode cc pc = .ok (.athrow, 1)) :
    W p l e (tRm B fr lo s.heap.size (SL s.heap)) s m args below meth c H locs (tZ x - s.heap.size) (tY x - SL s.heap) (xMQ below w A B (mk r) x1 args s) (F0 m pc ls (.ref q :: rest)) := by
  obtain ⟨⟨fs, hd⟩, hf⟩ := gO_some hf
  cases hf
  rw [hmk]
  refine vx_athrow C.1.1 C.1.2.1 hdg (x_out C hxt hI ?_)
  have hat : va_at (wD w) clz (q, .inr (4, fs)) H := hI.at (TK_d hd)
  obtain ⟨r9, h1, cell, q1, q2, q3, -⟩ := hat
  have hr : r9 = (RX4, TX4, 8) := Option.some.inj (h1.symm.trans rfl)
  subst hr
  obtain ⟨-, hfc, -⟩ := C.2.1.1 4 _ rfl
  exact ⟨cell, q1, q3, by rw [q2]; exact hfc⟩
theorem x_callV0 {index maxL n fr1 lo1 : Nat} {y : MethodName} {bytes : ByteArray} {ret : Option FieldType} {As st0 : List Value} {r1 : Nat ⊕ Option Value} {x1 : TS}
    (C : tCx w A p s m args meth c cc nL RX0 ret0) (hI : tI w A B x s.heap H locs) (hM : xMet l y (ws_ y bytes maxL ret) fr1 lo1 (.ref (wa w 37) :: As) w A B x r1 x1) (hy : y.cls = RX0) (cw : cV RX0 index y bytes maxL ret n) (hR : fr1 + 1 ≤ fr ∧ 8 + (maxL + 11) + lo1 ≤ lo)
    (hn : As.length = n) (hsize : ls.size = nL) (hst : st0 = As.reverse ++ .ref (wa w 37) :: rest) (hW : (rest.map fun v => v.category).sum ≤ 8) (hdg : decode cc pc = .ok (.invokevirtual index, 3))
    (kx : ∀ q, r1 = .inl q → ∀ H locs, tI w A B x1 s.heap H locs → flt s H q → vx_W p l e (tRm B fr lo s.heap.size (SL s.heap)) s m args below meth c H locs (tZ x1 - s.heap.size) (tY x1 - SL s.heap) Q (F0 m pc ls rest) q)
    (kk : ∀ v, r1 = .inr v → ∀ H locs, tI w A B x1 s.heap H locs → W p l e (tRm B fr lo s.heap.size (SL s.heap)) s m args below meth c H locs (tZ x1 - s.heap.size) (tY x1 - SL s.heap) Q (F0 m (pc + 3) ls (v.toList ++ rest))) : W p l e (tRm B fr lo s.heap.size (SL s.heap)) s m args below meth c H locs (tZ x - s.heap.size) (tY x - SL s.heap) Q (F0 m pc ls st0) := by
  obtain ⟨hx, hb, hml, hown, hts, -, -⟩ := C.1
  exact x_back hI (vx_runV (l := l) (e := e) (R := tRm B fr lo s.heap.size (SL s.heap)) (below := below) (meth := meth) (H := H) (locs := locs) (As := As) (rest := rest) (g := F0 m pc ls st0) (nL := nL) (Ts := lw_all) (index := index) (n := n) (C := y.cls) ⟨hx, hb, hml, hown, hts⟩ hM
    (cwV n hts cw.1 rfl rfl rfl ⟨rfl, cw.2⟩ hR) ⟨tB_blind, by rw [hy]; exact rv_main C hI, fun U hU hW => ⟨rfl, tB_of C hI U hU hW⟩⟩ rfl hn hsize hst (lv_room hW) hdg (hI.fit rfl rfl)) kx kk
theorem x_cV {α β : Type} {mk : Nat ⊕ α → Nat ⊕ Option Value} {mr : Nat ⊕ β → Nat ⊕ Option Value} {mo : α → Option Value} {index maxL n fr1 lo1 : Nat} {y : MethodName} {bytes : ByteArray} {ret : Option FieldType} {As st0 : List Value} {F : Option (XR α)} {f : α → TS → Option (XR β)} {r : Nat ⊕ β} {xr : TS} (hmk : ∀ q, mk (.inl q) = .inl q) (hmo : ∀ v, mk (.inr v) = .inr (mo v)) (hmr : ∀ q, mr (.inl q) = .inl q)
    (C : tCx w A p s m args meth c cc nL RX0 ret0) (hxt : ∀ z ∈ c.exceptionTable.toList, False) (hI : tI w A B x s.heap H locs) (hf : bx F f = some (r, xr)) (hM : ∀ v x1, F = some (v, x1) → xMet l y (ws_ y bytes maxL ret) fr1 lo1 (.ref (wa w 37) :: As) w A B x (mk v) x1) (hy : y.cls = RX0) (cw : cV RX0 index y bytes maxL ret n) (hR : fr1 + 1 ≤ fr ∧ 8 + (maxL + 11) + lo1 ≤ lo)
    (hn : As.length = n) (hsize : ls.size = nL) (hst : st0 = As.reverse ++ .ref (wa w 37) :: rest) (hW : (rest.map fun v => v.category).sum ≤ 8) (hdg : decode cc pc = .ok (.invokevirtual index, 3))
    (kk : ∀ v x1 H locs, tI w A B x1 s.heap H locs → f v x1 = some (r, xr) → W p l e (tRm B fr lo s.heap.size (SL s.heap)) s m args below meth c H locs (tZ x1 - s.heap.size) (tY x1 - SL s.heap) (xMQ below w A B (mr r) xr args s) (F0 m (pc + 3) ls ((mo v).toList ++ rest))) : W p l e (tRm B fr lo s.heap.size (SL s.heap)) s m args below meth c H locs (tZ x - s.heap.size) (tY x - SL s.heap) (xMQ below w A B (mr r) xr args s) (F0 m pc ls st0) := by
  cases hF : F with
  | none => rw [hF] at hf; cases hf
  | some rr =>
    obtain ⟨r1, x1⟩ := rr
    refine x_callV0 C hI (hM r1 x1 hF) hy cw hR hn hsize hst hW hdg (fun q hq H locs hI1 hfl => ?_) (fun v hv H locs hI1 => ?_)
    · cases r1 with
      | inl q1 =>
        rw [hmk] at hq
        cases hq
        rw [hF] at hf
        cases hf
        rw [hmr]
        exact x_out C hxt hI1 hfl
      | inr v1 => rw [hmo] at hq; cases hq
    · cases r1 with
      | inl q1 => rw [hmk] at hv; cases hv
      | inr v1 =>
        rw [hmo] at hv
        cases hv
        rw [hF] at hf
        exact kk v1 x1 H locs hI1 hf
theorem x_cVi {β : Type} {mr : Nat ⊕ β → Nat ⊕ Option Value} {index maxL n fr1 lo1 : Nat} {y : MethodName} {bytes : ByteArray} {ret : Option FieldType} {As st0 : List Value} {F : Option (XR Int32)} {f : Int32 → TS → Option (XR β)} {r : Nat ⊕ β} {xr : TS} (hmr : ∀ q, mr (.inl q) = .inl q)
    (C : tCx w A p s m args meth c cc nL RX0 ret0) (hxt : ∀ z ∈ c.exceptionTable.toList, False) (hI : tI w A B x s.heap H locs) (hf : bx F f = some (r, xr)) (hM : ∀ v x1, F = some (v, x1) → xMet l y (ws_ y bytes maxL ret) fr1 lo1 (.ref (wa w 37) :: As) w A B x (mi v) x1) (hy : y.cls = RX0) (cw : cV RX0 index y bytes maxL ret n) (hR : fr1 + 1 ≤ fr ∧ 8 + (maxL + 11) + lo1 ≤ lo)
    (hn : As.length = n) (hsize : ls.size = nL) (hst : st0 = As.reverse ++ .ref (wa w 37) :: rest) (hW : (rest.map fun v => v.category).sum ≤ 8) (hdg : decode cc pc = .ok (.invokevirtual index, 3))
    (kk : ∀ v x1 H locs, tI w A B x1 s.heap H locs → f v x1 = some (r, xr) → W p l e (tRm B fr lo s.heap.size (SL s.heap)) s m args below meth c H locs (tZ x1 - s.heap.size) (tY x1 - SL s.heap) (xMQ below w A B (mr r) xr args s) (F0 m (pc + 3) ls (.int v :: rest))) : W p l e (tRm B fr lo s.heap.size (SL s.heap)) s m args below meth c H locs (tZ x - s.heap.size) (tY x - SL s.heap) (xMQ below w A B (mr r) xr args s) (F0 m pc ls st0) :=
  x_cV (mk := mi) (mo := fun v => some (.int v)) (fun _ => rfl) (fun _ => rfl) hmr C hxt hI hf hM hy cw hR hn hsize hst hW hdg kk
theorem x_cVr {β : Type} {mr : Nat ⊕ β → Nat ⊕ Option Value} {index maxL n fr1 lo1 : Nat} {y : MethodName} {bytes : ByteArray} {ret : Option FieldType} {As st0 : List Value} {F : Option (XR Nat)} {f : Nat → TS → Option (XR β)} {r : Nat ⊕ β} {xr : TS} (hmr : ∀ q, mr (.inl q) = .inl q)
    (C : tCx w A p s m args meth c cc nL RX0 ret0) (hxt : ∀ z ∈ c.exceptionTable.toList, False) (hI : tI w A B x s.heap H locs) (hf : bx F f = some (r, xr)) (hM : ∀ v x1, F = some (v, x1) → xMet l y (ws_ y bytes maxL ret) fr1 lo1 (.ref (wa w 37) :: As) w A B x (ma v) x1) (hy : y.cls = RX0) (cw : cV RX0 index y bytes maxL ret n) (hR : fr1 + 1 ≤ fr ∧ 8 + (maxL + 11) + lo1 ≤ lo)
    (hn : As.length = n) (hsize : ls.size = nL) (hst : st0 = As.reverse ++ .ref (wa w 37) :: rest) (hW : (rest.map fun v => v.category).sum ≤ 8) (hdg : decode cc pc = .ok (.invokevirtual index, 3))
    (kk : ∀ v x1 H locs, tI w A B x1 s.heap H locs → f v x1 = some (r, xr) → W p l e (tRm B fr lo s.heap.size (SL s.heap)) s m args below meth c H locs (tZ x1 - s.heap.size) (tY x1 - SL s.heap) (xMQ below w A B (mr r) xr args s) (F0 m (pc + 3) ls (.ref v :: rest))) : W p l e (tRm B fr lo s.heap.size (SL s.heap)) s m args below meth c H locs (tZ x - s.heap.size) (tY x - SL s.heap) (xMQ below w A B (mr r) xr args s) (F0 m pc ls st0) :=
  x_cV (mk := ma) (mo := fun v => some (.ref v)) (fun _ => rfl) (fun _ => rfl) hmr C hxt hI hf hM hy cw hR hn hsize hst hW hdg kk
theorem x_cVv {β : Type} {mr : Nat ⊕ β → Nat ⊕ Option Value} {index maxL n fr1 lo1 : Nat} {y : MethodName} {bytes : ByteArray} {ret : Option FieldType} {As st0 : List Value} {F : Option (XR Unit)} {f : Unit → TS → Option (XR β)} {r : Nat ⊕ β} {xr : TS} (hmr : ∀ q, mr (.inl q) = .inl q)
    (C : tCx w A p s m args meth c cc nL RX0 ret0) (hxt : ∀ z ∈ c.exceptionTable.toList, False) (hI : tI w A B x s.heap H locs) (hf : bx F f = some (r, xr)) (hM : ∀ v x1, F = some (v, x1) → xMet l y (ws_ y bytes maxL ret) fr1 lo1 (.ref (wa w 37) :: As) w A B x (mv v) x1) (hy : y.cls = RX0) (cw : cV RX0 index y bytes maxL ret n) (hR : fr1 + 1 ≤ fr ∧ 8 + (maxL + 11) + lo1 ≤ lo)
    (hn : As.length = n) (hsize : ls.size = nL) (hst : st0 = As.reverse ++ .ref (wa w 37) :: rest) (hW : (rest.map fun v => v.category).sum ≤ 8) (hdg : decode cc pc = .ok (.invokevirtual index, 3))
    (kk : ∀ x1 H locs, tI w A B x1 s.heap H locs → f () x1 = some (r, xr) → W p l e (tRm B fr lo s.heap.size (SL s.heap)) s m args below meth c H locs (tZ x1 - s.heap.size) (tY x1 - SL s.heap) (xMQ below w A B (mr r) xr args s) (F0 m (pc + 3) ls rest)) : W p l e (tRm B fr lo s.heap.size (SL s.heap)) s m args below meth c H locs (tZ x - s.heap.size) (tY x - SL s.heap) (xMQ below w A B (mr r) xr args s) (F0 m pc ls st0) :=
  x_cV (mk := mv) (mo := fun _ => none) (fun _ => rfl) (fun _ => rfl) hmr C hxt hI hf hM hy cw hR hn hsize hst hW hdg (fun _ x1 H locs => kk x1 H locs)
/-- starts -/
theorem x_start {y : MethodName} {maxL : Nat} {ret : Option FieldType} {av : List Value} {r : Nat ⊕ Option Value} {x1 : TS} {lv : List (Nat × Value)} (hy : plainName y.cls = true) (hcl : y.cls = own) (hlen : (lg_sl av).length ≤ maxL) (hlv : lv_args 0 av = lv)
    (body : ∀ (p : Program) (e : Env) (s : State) (m : MethodId) (args : Array Value) (below : List Frame) (meth : Method) (c : Code) (ls : Array Slot) (H : Heap) (locs : List Loc), tCx w A p s m args meth c cc maxL own ret → (∀ z ∈ c.exceptionTable.toList, False) → tI w A B x s.heap H locs → lv_has ls maxL lv → W p l e (tRm B fr lo s.heap.size (SL s.heap)) s m args below meth c H locs (tZ x - s.heap.size) (tY x - SL s.heap) (xMQ below w A B r x1 args s) (F0 m 0 ls [])) :
    xMet l y (ws_ y cc maxL ret) fr lo av w A B x r x1 := by
  refine vx_ofW (cc := cc) (maxL := maxL) (ret := ret) hy rfl ?_
  intro p e s m args below meth c s₁ B0 hml hxt hv
  obtain ⟨rfl, hK, hE, hP, hD, hz, hsl, h1, h2, h3⟩ := hv
  have hts := atoms_spec (ws := ws_ y cc maxL ret) B0.pre
  have hown : s.vm.findClass own = some m.cls := by rw [← hcl]; exact findClass_of_methodNamed B0.named
  have hl := lv_entry av (n := maxL) hlen
  rw [lg_entry_eq]
  subst hlv
  have hI : tI w A B x s.heap s.heap [] := ⟨hP, hD, va_S.rf, hz, hsl, h1, ⟨h2, by omega⟩, h3⟩
  have k := body p e s m _ below meth c _ s.heap [] ⟨⟨B0.exec, B0.bytes, hml, hown, fun w h => hts w (List.mem_cons_of_mem _ h), B0.returns, B0.notSynchronized⟩, hK, hE⟩ hxt hI hl
  rw [← hz, ← hsl] at k ⊢
  rw [Nat.sub_self, Nat.sub_self] at k
  exact k
end TG
