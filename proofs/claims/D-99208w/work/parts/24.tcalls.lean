/-! CALLS, ENDS, STARTS OF THE SYSTEM's METHODS -/
set_option maxRecDepth 100000
/-- a nest mate's method: what its rows say but the link -/
def cN (y : MethodName) (bytes : ByteArray) (maxL : Nat) (ret : Option FieldType) (n : Nat) : Prop :=
  GoodIn lw_all (ws_ y bytes maxL ret) ∧ Cond.initialized y.cls ∈ lw_all ∧ y.cls ≠ "java/lang/invoke/MethodHandle" ∧ y.cls ≠ "java/lang/invoke/VarHandle" ∧ (parseMethodDescriptor y.desc).map (fun d => d.parameters.length) = some n
section TC
variable {p : Program} {l : Launch} {e : Env} {R : Room} {s : State} {m : MethodId} {args : Array Value} {below : List Frame} {meth : Method} {c : Code} {H : Heap} {locs : List Loc} {Q : State → Prop}
variable {cc : ByteArray} {pc nL cells slots fr lo : Nat} {ls : Array Slot} {rest : List Value} {w : tO} {A : Nat → Prop} {B : Nat × Nat} {x : TS} {ret0 : Option FieldType} {own : String}
theorem tI.fit {mc ms : Nat} (hI : tI w A B x s.heap H locs) (h1 : mc = B.1 - tZ x) (h2 : ms = B.2 - tY x) : (tZ x - s.heap.size) + mc ≤ B.1 - s.heap.size ∧ (tY x - SL s.heap) + ms ≤ B.2 - SL s.heap := by
  have h3 := hI.2.2.1.1
  have h4 := hI.2.2.2.1
  have h6 := hI.2.2.2.2.2.1
  have h7 := hI.2.2.2.2.2.2.1
  omega
theorem tB_of (C : tCx w A p s m args meth c cc nL own ret0) (hI : tI w A B x s.heap H locs) : ∀ U : State, U.heap = H → s.WarmedH U.vm → tB w A B x U := fun U hU hW =>
  ⟨va_K.moved hW.alike C.2.1, C.2.2.later hI.2.2.1 hU hW, by rw [hU]; exact hI.1, hI.2.1, by rw [hU]; exact hI.2.2.2.1, by rw [hU]; exact hI.2.2.2.2.1, hI.2.2.2.2.2.1, hI.2.2.2.2.2.2.1.1, hI.2.2.2.2.2.2.2⟩
theorem t_back {st0 : List Value} {v : Option Value} {x1 : TS} {a : Array Value} (hI : tI w A B x s.heap H locs) (run : va_Run p l e R s m args below meth c H locs cells slots (B.1 - tZ x) (B.2 - tY x) (F0 m pc ls st0) rest (tQ w A B v x1 a) A)
    (kk : ∀ H locs, tI w A B x1 s.heap H locs → W p l e R s m args below meth c H locs (tZ x1 - s.heap.size) (tY x1 - SL s.heap) Q (F0 m (pc + 3) ls (v.toList ++ rest))) : W p l e R s m args below meth c H locs cells slots Q (F0 m pc ls st0) := by
  intro T hT X
  obtain ⟨v9, st₀, t, T', L, h0, X', hL, e1, -, ⟨hw, hP1, hD1, hF, hs1, hs2, hs3, hs4, hs5, hs6⟩, st⟩ := run T hT X
  cases hw
  have hS := hI.2.2.1
  have hF1 : H.size ≤ t.heap.size ∧ ∀ q : Nat, q < H.size → ¬ A q → t.heap[q]? = H[q]? := by
    obtain ⟨f1, f2⟩ := hF
    rw [h0] at f1 f2
    exact ⟨f1, f2⟩
  rw [h0] at hs6
  have hzz : tZ x ≤ tZ x1 := by rw [← hI.2.2.2.1, ← hs1]; exact hF1.1
  have hI1 : tI w A B x1 s.heap T'.heap (locs ++ L) := ⟨by rw [e1]; exact hP1, hD1, ⟨Nat.le_trans hS.1 (by rw [e1]; exact hF1.1), fun q h1 h2 => by rw [e1, hF1.2 q (Nat.lt_of_lt_of_le h1 hS.1) h2]; exact hS.2.1 q h1 h2, fun q hq => by
      rcases List.mem_append.mp hq with h | h
      · exact hS.2.2 q h
      · exact hL q h⟩, by rw [e1]; exact hs1, by rw [e1]; exact hs2, hs3, ⟨hs4, Nat.le_trans hI.2.2.2.2.2.2.1.2 (by rw [← hI.2.2.2.2.1]; exact hs6)⟩, fun q hq => hI.2.2.2.2.2.2.2.1 q (Nat.le_trans hzz hq), ⟨hI.2.2.2.2.2.2.2.2.1.1, hs5⟩, hI.2.2.2.2.2.2.2.2.2⟩
  obtain ⟨t2, a1, b1⟩ := t_tight hI1 (kk T'.heap (locs ++ L) hI1) T' rfl X'
  exact ⟨t2, st t2 a1, b1⟩
theorem t_callV0 {index maxL n fr1 lo1 b : Nat} {y : MethodName} {bytes : ByteArray} {ret : Option FieldType} {As st0 : List Value} {v : Option Value} {x1 : TS}
    (C : tCx w A p s m args meth c cc nL own ret0) (hI : tI w A B x s.heap H locs) (hM : tMet l y (ws_ y bytes maxL ret) fr1 lo1 (.ref b :: As) w A B x v x1) (hrv : ∃ cell : Cell, H[b]? = some cell ∧ cell.vm.isStatics = false ∧ s.vm.findClass y.cls = some cell.cls) (cw : cV own index y bytes maxL ret n) (hR : fr1 + 1 ≤ fr ∧ 8 + (maxL + 11) + lo1 ≤ lo)
    (hn : As.length = n) (hsize : ls.size = nL) (hst : st0 = As.reverse ++ .ref b :: rest) (hW : (rest.map fun v => v.category).sum ≤ 8) (hdg : decode cc pc = .ok (.invokevirtual index, 3))
    (kk : ∀ H locs, tI w A B x1 s.heap H locs → W p l e (tRm B fr lo s.heap.size (SL s.heap)) s m args below meth c H locs (tZ x1 - s.heap.size) (tY x1 - SL s.heap) Q (F0 m (pc + 3) ls (v.toList ++ rest))) : W p l e (tRm B fr lo s.heap.size (SL s.heap)) s m args below meth c H locs (tZ x - s.heap.size) (tY x - SL s.heap) Q (F0 m pc ls st0) := by
  obtain ⟨hx, hb, hml, hown, hts, -, -⟩ := C.1
  exact t_back hI (va_runV (l := l) (e := e) (R := tRm B fr lo s.heap.size (SL s.heap)) (below := below) (meth := meth) (H := H) (locs := locs) (As := As) (rest := rest) (g := F0 m pc ls st0) (nL := nL) (Ts := lw_all) (index := index) (n := n) (C := y.cls) ⟨hx, hb, hml, hown, hts⟩ hM
    (cwV n hts cw.1 rfl rfl rfl ⟨rfl, cw.2⟩ hR) ⟨tB_blind, hrv, fun U hU hW => ⟨rfl, tB_of C hI U hU hW⟩⟩ rfl hn hsize hst (lv_room hW) hdg (hI.fit rfl rfl)) kk
theorem t_callVN0 {index maxL n fr1 lo1 b : Nat} {y : MethodName} {bytes : ByteArray} {ret : Option FieldType} {As st0 : List Value} {v : Option Value} {x1 : TS}
    (C : tCx w A p s m args meth c cc nL own ret0) (hI : tI w A B x s.heap H locs) (hM : tMet l y (ws_ y bytes maxL ret) fr1 lo1 (.ref b :: As) w A B x v x1) (hrv : ∃ cell : Cell, H[b]? = some cell ∧ cell.vm.isStatics = false ∧ s.vm.findClass y.cls = some cell.cls) (cw : cN y bytes maxL ret n) (hq : Cond.instanceMethod y ∈ lw_all ∧ Cond.selects y.cls y y ∈ lw_all) (hl : (own, index, y, "TwelveChain") ∈ nM) (hR : fr1 + 1 ≤ fr ∧ 8 + (maxL + 11) + lo1 ≤ lo)
    (hn : As.length = n) (hsize : ls.size = nL) (hst : st0 = As.reverse ++ .ref b :: rest) (hW : (rest.map fun v => v.category).sum ≤ 8) (hdg : decode cc pc = .ok (.invokevirtual index, 3))
    (kk : ∀ H locs, tI w A B x1 s.heap H locs → W p l e (tRm B fr lo s.heap.size (SL s.heap)) s m args below meth c H locs (tZ x1 - s.heap.size) (tY x1 - SL s.heap) Q (F0 m (pc + 3) ls (v.toList ++ rest))) : W p l e (tRm B fr lo s.heap.size (SL s.heap)) s m args below meth c H locs (tZ x - s.heap.size) (tY x - SL s.heap) Q (F0 m pc ls st0) := by
  obtain ⟨hx, hb, hml, hown, hts, -, -⟩ := C.1
  have hnest := C.2.2.2.2.2.1.2.1 _ hl
  exact t_back hI (va_runVN (l := l) (e := e) (R := tRm B fr lo s.heap.size (SL s.heap)) (below := below) (meth := meth) (H := H) (locs := locs) (As := As) (rest := rest) (g := F0 m pc ls st0) (nL := nL) (Ts := lw_all) (index := index) (n := n) (C := y.cls) (host := "TwelveChain") ⟨hx, hb, hml, hown, hts⟩ hM
    ⟨va_cnB n hts cw.1 rfl rfl rfl hnest (hts _ cw.2.1) cw.2.2 hR, hts _ hq.1, hts _ hq.2⟩ ⟨tB_blind, hrv, fun U hU hW => ⟨rfl, tB_of C hI U hU hW⟩⟩ rfl hn hsize hst (lv_room hW) hdg (hI.fit rfl rfl)) kk
theorem t_callS0 {index maxL n fr1 lo1 : Nat} {y : MethodName} {bytes : ByteArray} {ret : Option FieldType} {As st0 : List Value} {v : Option Value} {x1 : TS}
    (C : tCx w A p s m args meth c cc nL own ret0) (hI : tI w A B x s.heap H locs) (hM : tMet l y (ws_ y bytes maxL ret) fr1 lo1 As w A B x v x1) (cw : cS own index y bytes maxL ret n) (hR : fr1 + 1 ≤ fr ∧ 8 + (maxL + 11) + lo1 ≤ lo)
    (hn : As.length = n) (hsize : ls.size = nL) (hst : st0 = As.reverse ++ rest) (hW : (rest.map fun v => v.category).sum ≤ 8) (hdg : decode cc pc = .ok (.invokestatic index, 3))
    (kk : ∀ H locs, tI w A B x1 s.heap H locs → W p l e (tRm B fr lo s.heap.size (SL s.heap)) s m args below meth c H locs (tZ x1 - s.heap.size) (tY x1 - SL s.heap) Q (F0 m (pc + 3) ls (v.toList ++ rest))) : W p l e (tRm B fr lo s.heap.size (SL s.heap)) s m args below meth c H locs (tZ x - s.heap.size) (tY x - SL s.heap) Q (F0 m pc ls st0) := by
  obtain ⟨hx, hb, hml, hown, hts, -, -⟩ := C.1
  exact t_back hI (va_runS (l := l) (e := e) (R := tRm B fr lo s.heap.size (SL s.heap)) (below := below) (meth := meth) (H := H) (locs := locs) (As := As) (rest := rest) (g := F0 m pc ls st0) (nL := nL) (Ts := lw_all) (index := index) (n := n) ⟨hx, hb, hml, hown, hts⟩ hM
    (va_cwS n hts cw.1 rfl rfl rfl cw.2 hR) ⟨tB_blind, fun U hU hW => ⟨rfl, tB_of C hI U hU hW⟩⟩ rfl hn hsize hst (lv_room hW) hdg (hI.fit rfl rfl)) kk
theorem t_callSN0 {index maxL n fr1 lo1 : Nat} {y : MethodName} {bytes : ByteArray} {ret : Option FieldType} {As st0 : List Value} {v : Option Value} {x1 : TS}
    (C : tCx w A p s m args meth c cc nL own ret0) (hI : tI w A B x s.heap H locs) (hM : tMet l y (ws_ y bytes maxL ret) fr1 lo1 As w A B x v x1) (cw : cN y bytes maxL ret n) (hq : Cond.static y ∈ lw_all) (hl : (own, index, y, "TwelveChain") ∈ nM) (hR : fr1 + 1 ≤ fr ∧ 8 + (maxL + 11) + lo1 ≤ lo)
    (hn : As.length = n) (hsize : ls.size = nL) (hst : st0 = As.reverse ++ rest) (hW : (rest.map fun v => v.category).sum ≤ 8) (hdg : decode cc pc = .ok (.invokestatic index, 3))
    (kk : ∀ H locs, tI w A B x1 s.heap H locs → W p l e (tRm B fr lo s.heap.size (SL s.heap)) s m args below meth c H locs (tZ x1 - s.heap.size) (tY x1 - SL s.heap) Q (F0 m (pc + 3) ls (v.toList ++ rest))) : W p l e (tRm B fr lo s.heap.size (SL s.heap)) s m args below meth c H locs (tZ x - s.heap.size) (tY x - SL s.heap) Q (F0 m pc ls st0) := by
  obtain ⟨hx, hb, hml, hown, hts, -, -⟩ := C.1
  have hnest := C.2.2.2.2.2.1.2.1 _ hl
  exact t_back hI (va_runSN (l := l) (e := e) (R := tRm B fr lo s.heap.size (SL s.heap)) (below := below) (meth := meth) (H := H) (locs := locs) (As := As) (rest := rest) (g := F0 m pc ls st0) (nL := nL) (Ts := lw_all) (index := index) (n := n) (host := "TwelveChain") ⟨hx, hb, hml, hown, hts⟩ hM
    ⟨va_cnB n hts cw.1 rfl rfl rfl hnest (hts _ cw.2.1) cw.2.2 hR, hts _ hq, trivial⟩ ⟨tB_blind, fun U hU hW => ⟨rfl, tB_of C hI U hU hW⟩⟩ rfl hn hsize hst (lv_room hW) hdg (hI.fit rfl rfl)) kk
theorem t_callI0 {index maxL n fr1 lo1 b : Nat} {y : MethodName} {bytes : ByteArray} {As st0 : List Value} {v : Option Value} {x1 : TS}
    (C : tCx w A p s m args meth c cc nL own ret0) (hI : tI w A B x s.heap H locs) (hM : tMet l y (ws_ y bytes maxL none) fr1 lo1 (.ref b :: As) w A B x v x1) (hy1 : y.name = "<init>") (hin : Cond.instanceMethod y ∈ lw_all) (hl : Cond.methodLink own index y ∈ lw_all) (cw : cN y bytes maxL none n) (hR : fr1 + 1 ≤ fr ∧ 8 + (maxL + 11) + lo1 ≤ lo)
    (hn : As.length = n) (hsize : ls.size = nL) (hst : st0 = As.reverse ++ .ref b :: rest) (hW : (rest.map fun v => v.category).sum ≤ 8) (hdg : decode cc pc = .ok (.invokespecial index, 3))
    (kk : ∀ H locs, tI w A B x1 s.heap H locs → W p l e (tRm B fr lo s.heap.size (SL s.heap)) s m args below meth c H locs (tZ x1 - s.heap.size) (tY x1 - SL s.heap) Q (F0 m (pc + 3) ls (v.toList ++ rest))) : W p l e (tRm B fr lo s.heap.size (SL s.heap)) s m args below meth c H locs (tZ x - s.heap.size) (tY x - SL s.heap) Q (F0 m pc ls st0) := by
  obtain ⟨hx, hb, hml, hown, hts, -, -⟩ := C.1
  exact t_back hI (va_runI (l := l) (e := e) (R := tRm B fr lo s.heap.size (SL s.heap)) (below := below) (meth := meth) (H := H) (locs := locs) (As := As) (rest := rest) (g := F0 m pc ls st0) (nL := nL) (Ts := lw_all) (index := index) (n := n) ⟨hx, hb, hml, hown, hts⟩ hM
    (cwI n hts cw.1 rfl rfl rfl (hts _ cw.2.1) (hts _ hl) (hts _ hin) hy1 cw.2.2 hR) ⟨tB_blind, fun U hU hW => ⟨rfl, tB_of C hI U hU hW⟩⟩ rfl hn hsize hst (lv_room hW) hdg (hI.fit rfl rfl)) kk
theorem t_callIN0 {index maxL n fr1 lo1 b : Nat} {y : MethodName} {bytes : ByteArray} {As st0 : List Value} {v : Option Value} {x1 : TS}
    (C : tCx w A p s m args meth c cc nL own ret0) (hI : tI w A B x s.heap H locs) (hM : tMet l y (ws_ y bytes maxL none) fr1 lo1 (.ref b :: As) w A B x v x1) (hy1 : y.name = "<init>") (hin : Cond.instanceMethod y ∈ lw_all) (hl : (own, index, y, "TwelveChain") ∈ nM) (cw : cN y bytes maxL none n) (hR : fr1 + 1 ≤ fr ∧ 8 + (maxL + 11) + lo1 ≤ lo)
    (hn : As.length = n) (hsize : ls.size = nL) (hst : st0 = As.reverse ++ .ref b :: rest) (hW : (rest.map fun v => v.category).sum ≤ 8) (hdg : decode cc pc = .ok (.invokespecial index, 3))
    (kk : ∀ H locs, tI w A B x1 s.heap H locs → W p l e (tRm B fr lo s.heap.size (SL s.heap)) s m args below meth c H locs (tZ x1 - s.heap.size) (tY x1 - SL s.heap) Q (F0 m (pc + 3) ls (v.toList ++ rest))) : W p l e (tRm B fr lo s.heap.size (SL s.heap)) s m args below meth c H locs (tZ x - s.heap.size) (tY x - SL s.heap) Q (F0 m pc ls st0) := by
  obtain ⟨hx, hb, hml, hown, hts, -, -⟩ := C.1
  have hnest := C.2.2.2.2.2.1.2.1 _ hl
  exact t_back hI (va_runIN (l := l) (e := e) (R := tRm B fr lo s.heap.size (SL s.heap)) (below := below) (meth := meth) (H := H) (locs := locs) (As := As) (rest := rest) (g := F0 m pc ls st0) (nL := nL) (Ts := lw_all) (index := index) (n := n) (host := "TwelveChain") ⟨hx, hb, hml, hown, hts⟩ hM
    ⟨va_cnB n hts cw.1 rfl rfl rfl hnest (hts _ cw.2.1) cw.2.2 hR, hy1, hts _ hin⟩ ⟨tB_blind, fun U hU hW => ⟨rfl, tB_of C hI U hU hW⟩⟩ rfl hn hsize hst (lv_room hW) hdg (hI.fit rfl rfl)) kk
/-- who receives -/
theorem rv_main (C : tCx w A p s m args meth c cc nL own ret0) (hI : tI w A B x s.heap H locs) : ∃ cell : Cell, H[wa w 37]? = some cell ∧ cell.vm.isStatics = false ∧ s.vm.findClass "TwelveChain" = some cell.cls :=
  va_recv (D := wD w) (cl := clz) (ws := [(wa w 37, .inr (0, TF w x))]) (ci := 0) (q0 := 0) C.2.1 (at_one (hI.at TK_0)) rfl rfl
theorem rv_chain {j : Nat} (C : tCx w A p s m args meth c cc nL own ret0) (hI : tI w A B x s.heap H locs) (hj : j < wn w) : ∃ cell : Cell, H[wG w j 5]? = some cell ∧ cell.vm.isStatics = false ∧ s.vm.findClass "TwelveChain$Chain" = some cell.cls :=
  va_recv (D := wD w) (cl := clz) (ws := [(wG w j 5, .inr (1, CF w x j))]) (ci := 1) (q0 := 0) C.2.1 (at_one (tc_at hI hj)) rfl rfl
theorem rv_dyn {q ci : Nat} {fs : List Value} {r : vw_C} (C : tCx w A p s m args meth c cc nL own ret0) (hI : tI w A B x s.heap H locs) (h : tD x q = some (dO ci fs)) (hc : clz[ci]? = some r) : ∃ cell : Cell, H[q]? = some cell ∧ cell.vm.isStatics = false ∧ s.vm.findClass r.1 = some cell.cls :=
  va_recv (D := wD w) (cl := clz) (ws := [(q, .inr (ci, fs))]) (q0 := 0) C.2.1 (at_one (hI.at (TK_d h))) hc rfl
/-- ends -/
theorem t_post {v : Option Value} (hI : tI w A B x s.heap H locs) : ∀ t : State, t.heap = H → s.WarmedH t.vm → tQ w A B v x args s (.returned v) t := fun t ht _ =>
  ⟨rfl, by rw [ht]; exact hI.1, hI.2.1, hI.2.2.1.F ht, by rw [ht]; exact hI.2.2.2.1, by rw [ht]; exact hI.2.2.2.2.1, hI.2.2.2.2.2.1, hI.2.2.2.2.2.2.1.1, hI.2.2.2.2.2.2.2.2.1.2, hI.2.2.2.2.2.2.1.2⟩
theorem t_out {g : JFrame} {v : Option Value} (hI : tI w A B x s.heap H locs) (kk : W p l e (tRm B fr lo s.heap.size (SL s.heap)) s m args below meth c H locs (B.1 - s.heap.size) (B.2 - SL s.heap) Q g) : W p l e (tRm B fr lo s.heap.size (SL s.heap)) s m args below meth c H locs (tZ x - s.heap.size) (tY x - SL s.heap) Q g := by
  have h6 := hI.2.2.2.2.2.1
  have h7 := hI.2.2.2.2.2.2.1.1
  exact W.widen (by omega) (by omega) kk
theorem t_iret {v r : Int32} {x1 : TS} (C : tCx w A p s m args meth c cc nL own (some .int)) (hI : tI w A B x s.heap H locs) (hf : some (v, x) = some (r, x1)) (hdg : decode cc pc = .ok (.ireturn, 1)) :
    W p l e (tRm B fr lo s.heap.size (SL s.heap)) s m args below meth c H locs (tZ x - s.heap.size) (tY x - SL s.heap) (MQ below (tQ w A B (some (.int r)) x1) args s (B.1 - s.heap.size) (B.2 - SL s.heap) A) (F0 m pc ls [.int v]) := by
  cases hf
  exact t_out (v := none) hI (W.iret C.1.1 C.1.2.1 C.1.2.2.2.2.2.1 (t_post hI) hI.2.2.1.2.2 hdg C.1.2.2.2.2.2.2)
theorem t_zret {v r : Int32} {x1 : TS} (C : tCx w A p s m args meth c cc nL own (some .boolean)) (hI : tI w A B x s.heap H locs) (hf : some (zb v, x) = some (r, x1)) (hdg : decode cc pc = .ok (.ireturn, 1)) :
    W p l e (tRm B fr lo s.heap.size (SL s.heap)) s m args below meth c H locs (tZ x - s.heap.size) (tY x - SL s.heap) (MQ below (tQ w A B (some (.int r)) x1) args s (B.1 - s.heap.size) (B.2 - SL s.heap) A) (F0 m pc ls [.int v]) := by
  cases hf
  exact t_out (v := none) hI (g_zret C.1.1 C.1.2.1 C.1.2.2.2.2.2.1 (t_post hI) hI.2.2.1.2.2 hdg C.1.2.2.2.2.2.2)
theorem t_zretc {v v1 r : Int32} {x1 : TS} (C : tCx w A p s m args meth c cc nL own (some .boolean)) (hI : tI w A B x s.heap H locs) (hz : zb v = v1) (hf : some (v1, x) = some (r, x1)) (hdg : decode cc pc = .ok (.ireturn, 1)) :
    W p l e (tRm B fr lo s.heap.size (SL s.heap)) s m args below meth c H locs (tZ x - s.heap.size) (tY x - SL s.heap) (MQ below (tQ w A B (some (.int r)) x1) args s (B.1 - s.heap.size) (B.2 - SL s.heap) A) (F0 m pc ls [.int v]) := t_zret C hI (by rw [hz]; exact hf) hdg
theorem t_vret {x1 : TS} (C : tCx w A p s m args meth c cc nL own none) (hI : tI w A B x s.heap H locs) (hf : some x = some x1) (hdg : decode cc pc = .ok (.return_, 1)) :
    W p l e (tRm B fr lo s.heap.size (SL s.heap)) s m args below meth c H locs (tZ x - s.heap.size) (tY x - SL s.heap) (MQ below (tQ w A B none x1) args s (B.1 - s.heap.size) (B.2 - SL s.heap) A) (F0 m pc ls []) := by
  cases hf
  exact t_out (v := none) hI (W.vret C.1.1 C.1.2.1 C.1.2.2.2.2.2.1 (t_post hI) hI.2.2.1.2.2 hdg C.1.2.2.2.2.2.2)
theorem t_aret {q1 q : Nat} {nm : String} {x1 : TS} (C : tCx w A p s m args meth c cc nL own (some (.object nm))) (hI : tI w A B x s.heap H locs) (hf : some (q, x) = some (q1, x1)) (hdg : decode cc pc = .ok (.areturn, 1)) :
    W p l e (tRm B fr lo s.heap.size (SL s.heap)) s m args below meth c H locs (tZ x - s.heap.size) (tY x - SL s.heap) (MQ below (tQ w A B (some (.ref q1)) x1) args s (B.1 - s.heap.size) (B.2 - SL s.heap) A) (F0 m pc ls [.ref q]) := by
  cases hf
  exact t_out (v := none) hI (W.aret C.1.1 C.1.2.1 C.1.2.2.2.2.2.1 (Or.inl ⟨_, rfl⟩) (Or.inr ⟨_, rfl⟩) (t_post hI) hI.2.2.1.2.2 hdg C.1.2.2.2.2.2.2)
theorem t_aretA {q1 q : Nat} {ty : FieldType} {x1 : TS} (C : tCx w A p s m args meth c cc nL own (some (.array ty))) (hI : tI w A B x s.heap H locs) (hf : some (q, x) = some (q1, x1)) (hdg : decode cc pc = .ok (.areturn, 1)) :
    W p l e (tRm B fr lo s.heap.size (SL s.heap)) s m args below meth c H locs (tZ x - s.heap.size) (tY x - SL s.heap) (MQ below (tQ w A B (some (.ref q1)) x1) args s (B.1 - s.heap.size) (B.2 - SL s.heap) A) (F0 m pc ls [.ref q]) := by
  cases hf
  exact t_out (v := none) hI (W.aret C.1.1 C.1.2.1 C.1.2.2.2.2.2.1 (Or.inr ⟨_, rfl⟩) (Or.inr ⟨_, rfl⟩) (t_post hI) hI.2.2.1.2.2 hdg C.1.2.2.2.2.2.2)
/-- starts -/
theorem t_start {y : MethodName} {maxL : Nat} {ret : Option FieldType} {av : List Value} {v : Option Value} {x1 : TS} {lv : List (Nat × Value)} (hy : plainFor y = true) (hcl : y.cls = own) (hlen : (lg_sl av).length ≤ maxL) (hlv : lv_args 0 av = lv)
    (body : ∀ (p : Program) (e : Env) (s : State) (m : MethodId) (args : Array Value) (below : List Frame) (meth : Method) (c : Code) (ls : Array Slot) (H : Heap) (locs : List Loc), tCx w A p s m args meth c cc maxL own ret → meth.name = y.name → tI w A B x s.heap H locs → lv_has ls maxL lv → W p l e (tRm B fr lo s.heap.size (SL s.heap)) s m args below meth c H locs (tZ x - s.heap.size) (tY x - SL s.heap) (MQ below (tQ w A B v x1) args s (B.1 - s.heap.size) (B.2 - SL s.heap) A) (F0 m 0 ls [])) :
    tMet l y (ws_ y cc maxL ret) fr lo av w A B x v x1 := by
  refine g_ofW (cc := cc) (maxL := maxL) (ret := ret) hy rfl ?_
  intro p e s m args below meth c s₁ B0 hml hv
  obtain ⟨rfl, hK, hE, hP, hD, hz, hsl, h1, h2, h3⟩ := hv
  have hts := atoms_spec (ws := ws_ y cc maxL ret) B0.pre
  have hown : s.vm.findClass own = some m.cls := by rw [← hcl]; exact findClass_of_methodNamed B0.named
  have hl := lv_entry av (n := maxL) hlen
  rw [lg_entry_eq]
  subst hlv
  have hI : tI w A B x s.heap s.heap [] := ⟨hP, hD, va_S.rf, hz, hsl, h1, ⟨h2, by omega⟩, h3⟩
  have k := body p e s m _ below meth c _ s.heap [] ⟨⟨B0.exec, B0.bytes, hml, hown, fun w h => hts w (List.mem_cons_of_mem _ h), B0.returns, B0.notSynchronized⟩, hK, hE⟩ (name_of_methodNamed B0.named B0.method).1 hI hl
  rw [← hz, ← hsl] at k ⊢
  rw [Nat.sub_self, Nat.sub_self] at k
  exact k
end TC
