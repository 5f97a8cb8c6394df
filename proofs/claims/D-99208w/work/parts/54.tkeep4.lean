/-! rows: who is ahead; a call of keepsAhead -/
set_option maxRecDepth 100000
section TKX
variable {p : Program} {l : Launch} {e : Env} {R : Room} {s : State} {m : MethodId} {args : Array Value} {below : List Frame} {meth : Method} {c : Code} {H : Heap} {locs : List Loc} {Q : State → Prop}
variable {cc : ByteArray} {pc nL cells slots fr lo : Nat} {ls : Array Slot} {rest : List Value} {w : tO} {A : Nat → Prop} {B : Nat × Nat} {x : TS} {ret0 : Option FieldType} {own : String} {n : Nat}
theorem t_hald1 {β : Type} {i : Int32} {f : Nat → Option β} {r : β} (C : tCx w A p s m args meth c cc nL own ret0) (hI : tI w A B x s.heap H locs) (hf : ((hget x i).bind fun o => o.bind fun j => f j) = some r) (hdg : decode cc pc = .ok (.aaload, 1))
    (kk : ∀ j, j < wn w → f j = some r → W p l e R s m args below meth c H locs cells slots Q (F0 m (pc + 1) ls (.ref (wG w j 5) :: rest))) : W p l e R s m args below meth c H locs cells slots Q (F0 m pc ls (.int i :: .ref (wa w 26) :: rest)) := by
  refine t_hald C hI hf hdg (fun o ho hf => ?_)
  cases o with
  | none => cases hf
  | some j => exact kk j (ho j rfl) hf
theorem cqX0_T_keepsAhead : cV RX0 432 yX0_keepsAhead cX0_keepsAhead 2 none 0 := ⟨lw_V q890 q892 qs28 q151 q893, by decide +kernel⟩
theorem t_keeps {β : Type} {N : Nat} {w0 : tO} {f : Nat → TS → Option β} {r : β} (C : tCx w A p s m args meth c cc nL RX0 ret0) (hW0 : Wx w0 w n) (hI : tI w A B x s.heap H locs) (hf : b2 (fT_keepsAhead N B n x) f = some r) (hR : 11 ≤ fr ∧ 421 ≤ lo) (hsize : ls.size = nL) (hW : (rest.map fun v => v.category).sum ≤ 8) (hdg : decode cc pc = .ok (.invokevirtual 432, 3))
    (kk : ∀ w1 n1 x1 H locs, Wx w0 w1 n1 → tI w1 A B x1 s.heap H locs → tCx w1 A p s m args meth c cc nL RX0 ret0 → wa w1 37 = wa w 37 → f n1 x1 = some r → W p l e (tRm B fr lo s.heap.size (SL s.heap)) s m args below meth c H locs (tZ x1 - s.heap.size) (tY x1 - SL s.heap) Q (F0 m (pc + 3) ls rest)) : W p l e (tRm B fr lo s.heap.size (SL s.heap)) s m args below meth c H locs (tZ x - s.heap.size) (tY x - SL s.heap) Q (F0 m pc ls (.ref (wa w 37) :: rest)) := by
  obtain ⟨n1, x1, hv, hk⟩ := b2_some hf
  obtain ⟨hx, hb, hml, hown, hts, -, -⟩ := C.1
  have cw := cqX0_T_keepsAhead
  exact t_backE hI (va_runV (l := l) (e := e) (R := tRm B fr lo s.heap.size (SL s.heap)) (below := below) (meth := meth) (H := H) (locs := locs) (As := []) (rest := rest) (g := F0 m pc ls (.ref (wa w 37) :: rest)) (nL := nL) (Ts := lw_all) (index := 432) (n := 0) (C := RX0) ⟨hx, hb, hml, hown, hts⟩ (tmT_keepsAhead l N B n hW0.n x n1 x1 hv)
    (cwV 0 hts cw.1 rfl rfl rfl ⟨rfl, cw.2⟩ ⟨by show 10 + 1 ≤ fr; exact hR.1, by show 8 + (2 + 11) + 400 ≤ lo; exact hR.2⟩) ⟨tB_blind, rv_main C hI, fun U hU hW => ⟨rfl, tB_of C hI U hU hW⟩⟩ rfl rfl hsize rfl (lv_room hW) hdg (hI.fit rfl rfl))
    (fun w1 H locs hW1 hI1 => kk w1 n1 x1 H locs (hW0.trans hW1) hI1 (tCx_W hW1 C) (hW1.wa 37) hk)
end TKX
