/-! ROWS OF THE SYSTEM: copies, new arrays, odds and ends -/
set_option maxRecDepth 100000
/-- a new array of references -/
def nwR (B : Nat × Nat) (x : TS) (code : Nat) (n : Int32) : Option (Nat × TS) := if n < 0 ∨ 536870912 < n.toNatClampNeg * 4 then none else alc B x n.toNatClampNeg (dR code n.toNatClampNeg (fun _ => none))
section TF5
variable {p : Program} {l : Launch} {e : Env} {R : Room} {s : State} {m : MethodId} {args : Array Value} {below : List Frame} {meth : Method} {c : Code} {H : Heap} {locs : List Loc} {Q : State → Prop}
variable {cc : ByteArray} {pc nL cells slots fr lo : Nat} {ls : Array Slot} {rest : List Value} {w : tO} {A : Nat → Prop} {B : Nat × Nat} {x : TS} {ret0 : Option FieldType} {own : String}
theorem t_room (hI : tI w A B x s.heap H locs) : tZ x - s.heap.size ≤ (tRm B fr lo s.heap.size (SL s.heap)).cells ∧ tY x - SL s.heap ≤ (tRm B fr lo s.heap.size (SL s.heap)).slots := by
  have h6 := hI.2.2.2.2.2.1
  have h7 := hI.2.2.2.2.2.2.1.1
  exact ⟨Nat.sub_le_sub_right h6 _, Nat.sub_le_sub_right h7 _⟩
theorem t_newR1 {β : Type} {code index : Nat} {E : String} {n : Int32} {f : Nat → TS → Option β} {r : β} (C : tCx w A p s m args meth c cc nL own ret0) (hI : tI w A B x s.heap H locs) (hf : b2 (nwR B x code n) f = some r) (ht : (tys w)[code]? = some (wc w code, .object E)) (hao : E ∈ nA) (hclink : Cond.classLink own index E ∈ lw_all) (hdg : decode cc pc = .ok (.anewarray index, 3))
    (kk : ∀ q x1 H locs, tI w A B x1 s.heap H locs → f q x1 = some r → W p l e (tRm B fr lo s.heap.size (SL s.heap)) s m args below meth c H locs (tZ x1 - s.heap.size) (tY x1 - SL s.heap) Q (F0 m (pc + 3) ls (.ref q :: rest))) : W p l e (tRm B fr lo s.heap.size (SL s.heap)) s m args below meth c H locs (tZ x - s.heap.size) (tY x - SL s.heap) Q (F0 m pc ls (.int n :: rest)) := by
  refine t_newR (code := code) C hI (r := r) (f := f) ?_ ht hao hclink hdg kk
  unfold nwR at hf
  by_cases h : n < 0 ∨ 536870912 < n.toNatClampNeg * 4
  · rw [if_pos h] at hf; cases hf
  · rw [if_neg h] at hf ⊢; exact hf
theorem t_cVw {β : Type} {index maxL n fr1 lo1 b : Nat} {y : MethodName} {bytes : ByteArray} {ret : Option FieldType} {As st0 : List Value} {v0 : Value} {F : Option TS} {f : TS → Option β} {r : β} (C : tCx w A p s m args meth c cc nL own ret0) (hI : tI w A B x s.heap H locs) (hf : Option.bind F f = some r) (hM : ∀ x1, F = some x1 → tMet l y (ws_ y bytes maxL ret) fr1 lo1 (.ref b :: As) w A B x (some v0) x1) (hrv : ∃ cell : Cell, H[b]? = some cell ∧ cell.vm.isStatics = false ∧ s.vm.findClass y.cls = some cell.cls) (cw : cV own index y bytes maxL ret n) (hR : fr1 + 1 ≤ fr ∧ 8 + (maxL + 11) + lo1 ≤ lo) (hn : As.length = n) (hsize : ls.size = nL) (hst : st0 = As.reverse ++ .ref b :: rest) (hW : (rest.map fun v => v.category).sum ≤ 8) (hdg : decode cc pc = .ok (.invokevirtual index, 3)) (kk : ∀ x1 H locs, tI w A B x1 s.heap H locs → f x1 = some r → W p l e (tRm B fr lo s.heap.size (SL s.heap)) s m args below meth c H locs (tZ x1 - s.heap.size) (tY x1 - SL s.heap) Q (F0 m (pc + 3) ls (v0 :: rest))) : W p l e (tRm B fr lo s.heap.size (SL s.heap)) s m args below meth c H locs (tZ x - s.heap.size) (tY x - SL s.heap) Q (F0 m pc ls st0) := by
  obtain ⟨x1, hv, hk⟩ := b1_some hf
  exact t_callV0 C hI (hM x1 hv) hrv cw hR hn hsize hst hW hdg (fun H locs hI1 => kk x1 H locs hI1 hk)
theorem t_aretC {j : Nat} {nm : String} {x1 : TS} (C : tCx w A p s m args meth c cc nL own (some (.object nm))) (hI : tI w A B x s.heap H locs) (hf : some x = some x1) (hdg : decode cc pc = .ok (.areturn, 1)) :
    W p l e (tRm B fr lo s.heap.size (SL s.heap)) s m args below meth c H locs (tZ x - s.heap.size) (tY x - SL s.heap) (MQ below (tQ w A B (some (.ref (wG w j 5))) x1) args s (B.1 - s.heap.size) (B.2 - SL s.heap) A) (F0 m pc ls [.ref (wG w j 5)]) := by
  cases hf
  exact t_out (v := none) hI (W.aret C.1.1 C.1.2.1 C.1.2.2.2.2.2.1 (Or.inl ⟨_, rfl⟩) (Or.inr ⟨_, rfl⟩) (t_post hI) hI.2.2.1.2.2 hdg C.1.2.2.2.2.2.2)
theorem cn_copies : cN yX0_copies cX0_copies 2 none 2 := ⟨lw_meth q848, q151, by decide +kernel⟩
theorem tc_copC {j0 r0 j1 r1 : Nat} (C : tCx w A p s m args meth c cc nL RX2 ret0) (hI : tI w A B x s.heap H locs) (h0 : j0 < wn w) (h1 : j1 < wn w) (hr0 : r0 < 5) (hr1 : r1 < 5) (hr : 2 ≤ fr ∧ 39 ≤ lo) (hsize : ls.size = nL) (hW : (rest.map fun v => v.category).sum ≤ 8) (hdg : decode cc pc = .ok (.invokestatic 31, 3))
    (kk : ∀ H locs, tI w A B (sTC x j1 r1 (tC x j0 r0)) s.heap H locs → W p l e (tRm B fr lo s.heap.size (SL s.heap)) s m args below meth c H locs (tZ (sTC x j1 r1 (tC x j0 r0)) - s.heap.size) (tY (sTC x j1 r1 (tC x j0 r0)) - SL s.heap) Q (F0 m (pc + 3) ls rest)) : W p l e (tRm B fr lo s.heap.size (SL s.heap)) s m args below meth c H locs (tZ x - s.heap.size) (tY x - SL s.heap) Q (F0 m pc ls (.ref (wG w j1 r1) :: .ref (wG w j0 r0) :: rest)) := by
  have hn9 := hI.2.2.2.2.2.2.2.2.2
  have k0 := TK_c (w := w) (x := x) (r := r0) h0 hn9 (by omega)
  have k1 := TK_c (w := w) (x := x) (r := r1) h1 hn9 (by omega)
  rw [if_neg (by omega)] at k0 k1
  exact t_callSN0 (rest := rest) C hI (tmT_copies l k0 k1 (by decide) (TK_carr h1 hn9 hr1) rfl rfl rfl) cn_copies q847 (List.mem_of_getElem? (i := 5) rfl) ⟨hr.1, hr.2⟩ rfl hsize rfl hW hdg kk
theorem cq_copies : cS RX0 605 yX0_copies cX0_copies 2 none 2 := ⟨lw_S q1345 q847 q151 q848, by decide +kernel⟩
theorem tc_copA {k0 k1 : Nat} (C : tCx w A p s m args meth c cc nL RX0 ret0) (hI : tI w A B x s.heap H locs) (hk0 : isTA k0 = true) (hk1 : isTA k1 = true) (hc0 : tcode k0 = 0 ∧ tcode k1 = 0 ∧ tlen k0 = tlen k1 ∧ tlen k1 < 2 ^ 31) (hz0 : k0 + 1 ≠ 3 ∧ k0 + 1 ≠ 27 ∧ k0 < 99) (hz1 : k1 + 1 ≠ 3 ∧ k1 + 1 ≠ 27 ∧ k1 < 99) (hr : 2 ≤ fr ∧ 39 ≤ lo) (hsize : ls.size = nL) (hW : (rest.map fun v => v.category).sum ≤ 8) (hdg : decode cc pc = .ok (.invokestatic 605, 3))
    (kk : ∀ H locs, tI w A B (sTA x k1 (tA x k0)) s.heap H locs → W p l e (tRm B fr lo s.heap.size (SL s.heap)) s m args below meth c H locs (tZ (sTA x k1 (tA x k0)) - s.heap.size) (tY (sTA x k1 (tA x k0)) - SL s.heap) Q (F0 m (pc + 3) ls rest)) : W p l e (tRm B fr lo s.heap.size (SL s.heap)) s m args below meth c H locs (tZ x - s.heap.size) (tY x - SL s.heap) Q (F0 m pc ls (.ref (wa w k1) :: .ref (wa w k0) :: rest)) := by
  have e0 := TK_a (w := w) (x := x) hk0 hz0
  have e1 := TK_a (w := w) (x := x) hk1 hz1
  have eU := TK_arr (w := w) (x := x) (f := tA x k0) hk1 hz1
  obtain ⟨c1, c2, c3, c4⟩ := hc0
  rw [c1, c3] at e0
  rw [c2] at e1 eU
  exact t_callS0 (rest := rest) C hI (tmT_copies l e0 e1 c4 eU rfl rfl rfl) cq_copies ⟨hr.1, hr.2⟩ rfl hsize rfl hW hdg kk
end TF5
