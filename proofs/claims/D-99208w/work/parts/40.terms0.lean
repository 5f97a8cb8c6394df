/-! TERMS: the call of an abstract method on a receiver of four classes -/
set_option maxRecDepth 100000
def yTe : MethodName := ⟨"TwelveChain$Term", "of", "([I)I"⟩
abbrev frTe (d : Nat) : Nat := d
abbrev loTe (d : Nat) : Nat := 30 * d
def ofOK (l : Launch) (w : tO) (A : Nat → Prop) (B : Nat × Nat) (K : TS → Nat → Option (Int32 × TS)) (fr lo : Nat) : Prop := ∀ (x : TS) (q : Nat) (v : Int32) (x1 : TS), K x q = some (v, x1) → ∃ (ci : Nat) (fs : List Value), tD x q = some (dO ci fs) ∧
  ((ci = 5 ∧ tMet l yX6_of (ws_ yX6_of cX6_of 2 (some .int)) fr lo [.ref q, .ref (wa w 17)] w A B x (some (.int v)) x1) ∨ (ci = 6 ∧ tMet l yX7_of (ws_ yX7_of cX7_of 2 (some .int)) fr lo [.ref q, .ref (wa w 17)] w A B x (some (.int v)) x1) ∨
   (ci = 7 ∧ tMet l yX8_of (ws_ yX8_of cX8_of 4 (some .int)) fr lo [.ref q, .ref (wa w 17)] w A B x (some (.int v)) x1) ∨ (ci = 8 ∧ tMet l yX9_of (ws_ yX9_of cX9_of 2 (some .int)) fr lo [.ref q, .ref (wa w 17)] w A B x (some (.int v)) x1))
theorem lw_U {own C owner : String} {idx : Nat} {x y : MethodName} {b : ByteArray} {L : Nat} {r : Option FieldType} (h1 : Cond.methodLink own idx x ∈ lw_all) (h2 : Cond.sameMethod x.cls owner x.name x.desc ∈ lw_all) (h3 : Cond.selects C x y ∈ lw_all) (h4 : Cond.instanceMethod y ∈ lw_all) (h5 : Cond.initialized y.cls ∈ lw_all) (h6 : Cond.code y b L r ∈ lw_all) : GoodIn lw_all (va_wsU own idx C owner x y (ws_ y b L r)) := by
  refine lw_app ?_ (lw_meth h6)
  intro w hw
  simp only [List.mem_cons, List.not_mem_nil, or_false] at hw
  rcases hw with e | e | e | e | e <;> subst e <;> assumption
section TTE
variable {p : Program} {l : Launch} {e : Env} {R : Room} {s : State} {m : MethodId} {args : Array Value} {below : List Frame} {meth : Method} {c : Code} {H : Heap} {locs : List Loc} {Q : State → Prop}
variable {cc : ByteArray} {pc nL cells slots fr lo : Nat} {ls : Array Slot} {rest : List Value} {w : tO} {A : Nat → Prop} {B : Nat × Nat} {x : TS} {ret0 : Option FieldType} {own : String}
theorem t_callU {index maxL fr1 lo1 b ci : Nat} {fs : List Value} {rr : u_T × Nat} {y : MethodName} {bytes : ByteArray} {v : Int32} {x1 : TS}
    (C : tCx w A p s m args meth c cc nL own ret0) (hI : tI w A B x s.heap H locs) (hM : tMet l y (ws_ y bytes maxL (some .int)) fr1 lo1 [.ref b, .ref (wa w 17)] w A B x (some (.int v)) x1) (hd : tD x b = some (dO ci fs)) (hci : clz[ci]? = some (y.cls, rr)) (hlink : Cond.methodLink own index yTe ∈ lw_all) (h3 : Cond.selects y.cls yTe y ∈ lw_all) (h4 : Cond.instanceMethod y ∈ lw_all) (h5 : Cond.initialized y.cls ∈ lw_all) (h6 : Cond.code y bytes maxL (some .int) ∈ lw_all) (hR : fr1 + 1 ≤ fr ∧ 8 + (maxL + 11) + lo1 ≤ lo)
    (hsize : ls.size = nL) (hW : (rest.map fun v => v.category).sum ≤ 8) (hdg : decode cc pc = .ok (.invokevirtual index, 3))
    (kk : ∀ H locs, tI w A B x1 s.heap H locs → W p l e (tRm B fr lo s.heap.size (SL s.heap)) s m args below meth c H locs (tZ x1 - s.heap.size) (tY x1 - SL s.heap) Q (F0 m (pc + 3) ls (.int v :: rest))) : W p l e (tRm B fr lo s.heap.size (SL s.heap)) s m args below meth c H locs (tZ x - s.heap.size) (tY x - SL s.heap) Q (F0 m pc ls (.ref (wa w 17) :: .ref b :: rest)) := by
  obtain ⟨hx, hb, hml, hown, hts, -, -⟩ := C.1
  exact t_back hI (va_runU (l := l) (e := e) (R := tRm B fr lo s.heap.size (SL s.heap)) (below := below) (meth := meth) (H := H) (locs := locs) (As := [.ref (wa w 17)]) (rest := rest) (g := F0 m pc ls (.ref (wa w 17) :: .ref b :: rest)) (nL := nL) (Ts := lw_all) (index := index) (n := 1) (C := y.cls) (x := yTe) (owner := "TwelveChain$Term") ⟨hx, hb, hml, hown, hts⟩ hM
    (va_cwA 1 hts (lw_U hlink q938 h3 h4 h5 h6) rfl rfl rfl (C.2.2.2.2.2.1.2.2.1 _ (List.mem_of_getElem? (i := 0) rfl)) ⟨by decide, by decide, by decide +kernel⟩ hR) ⟨tB_blind, rv_dyn C hI hd hci, fun U hU hW => ⟨rfl, tB_of C hI U hU hW⟩⟩ rfl rfl hsize rfl (lv_room hW) hdg (hI.fit rfl rfl)) kk
theorem t_callOf {β : Type} {index fr1 lo1 q : Nat} {K : TS → Nat → Option (Int32 × TS)} {f : Int32 → TS → Option β} {r : β} (C : tCx w A p s m args meth c cc nL own ret0) (hI : tI w A B x s.heap H locs) (hK : ofOK l w A B K fr1 lo1) (hf : b2 (K x q) f = some r) (hlink : Cond.methodLink own index yTe ∈ lw_all) (hR : fr1 + 1 ≤ fr ∧ 8 + (4 + 11) + lo1 ≤ lo)
    (hsize : ls.size = nL) (hW : (rest.map fun v => v.category).sum ≤ 8) (hdg : decode cc pc = .ok (.invokevirtual index, 3))
    (kk : ∀ v x1 H locs, tI w A B x1 s.heap H locs → f v x1 = some r → W p l e (tRm B fr lo s.heap.size (SL s.heap)) s m args below meth c H locs (tZ x1 - s.heap.size) (tY x1 - SL s.heap) Q (F0 m (pc + 3) ls (.int v :: rest))) : W p l e (tRm B fr lo s.heap.size (SL s.heap)) s m args below meth c H locs (tZ x - s.heap.size) (tY x - SL s.heap) Q (F0 m pc ls (.ref (wa w 17) :: .ref q :: rest)) := by
  obtain ⟨v, x1, hv, hk⟩ := b2_some hf
  obtain ⟨ci, fs, hd, ⟨rfl, hM⟩ | ⟨rfl, hM⟩ | ⟨rfl, hM⟩ | ⟨rfl, hM⟩⟩ := hK x q v x1 hv
  · exact t_callU C hI hM hd rfl hlink q950 q943 q169 q944 ⟨hR.1, by omega⟩ hsize hW hdg (fun H locs hI1 => kk v x1 H locs hI1 hk)
  · exact t_callU C hI hM hd rfl hlink q952 q948 q170 q949 ⟨hR.1, by omega⟩ hsize hW hdg (fun H locs hI1 => kk v x1 H locs hI1 hk)
  · exact t_callU C hI hM hd rfl hlink q951 q945 q171 q946 ⟨hR.1, by omega⟩ hsize hW hdg (fun H locs hI1 => kk v x1 H locs hI1 hk)
  · exact t_callU C hI hM hd rfl hlink q939 q940 q172 q941 ⟨hR.1, by omega⟩ hsize hW hdg (fun H locs hI1 => kk v x1 H locs hI1 hk)
end TTE
