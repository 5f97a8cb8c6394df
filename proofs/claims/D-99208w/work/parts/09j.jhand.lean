/-! the bounds' checks of the JDK; more calls -/
set_option maxRecDepth 100000
theorem byte_zero {v r : Int32} (h : (if v = 0 then some v else none) = some r) : v = 0 ∧ some v = some r := by
  by_cases hc : v = 0
  · rw [if_pos hc] at h; exact ⟨hc, h⟩
  · rw [if_neg hc] at h; cases h
section JH
variable {p : Program} {l : Launch} {e : Env} {R : Room} {s : State} {m : MethodId} {args : Array Value} {below : List Frame} {meth : Method} {c : Code} {H : Heap} {locs : List Loc} {cells slots : Nat} {Q : State → Prop}
variable {cc : ByteArray} {pc nL : Nat} {ls : Array Slot} {rest : List Value} {k : kO} {A : Nat → Prop}
theorem j_calliS {β : Type} {own : String} {index maxL n : Nat} {y : MethodName} {bytes : ByteArray} {ret ret0 : Option FieldType} {rm : Room} {As st0 : List Value} {F : Option Int32} {f : Int32 → Option β} {r : β}
    (C : gC p s m args meth c cc nL own ret0) (hE : gE k A s) (hS : va_S A s.heap H locs) (hf : F.bind f = some r) (hM : ∀ v, F = some v → jMet l y (ws_ y bytes maxL ret) rm As k A (some (.int v))) (cw : cS own index y bytes maxL ret n) (hz : rm.cells = 0 ∧ rm.slots = 0) (hR : cR rm R maxL)
    (hn : As.length = n) (hsize : ls.size = nL) (hst : st0 = As.reverse ++ rest) (hW : (rest.map fun v => v.category).sum ≤ 8) (hfit : cells ≤ R.cells ∧ slots ≤ R.slots) (hdg : decode cc pc = .ok (.invokestatic index, 3))
    (kk : ∀ v, f v = some r → W p l e R s m args below meth c H locs cells slots Q (F0 m (pc + 3) ls (.int v :: rest))) : W p l e R s m args below meth c H locs cells slots Q (F0 m pc ls st0) :=
  j_callS (mk := fun v => some (.int v)) C hE hS hf hM cw hz hR hn hsize hst hW hfit hdg kk
theorem j_callvS {β : Type} {own : String} {index maxL n : Nat} {y : MethodName} {bytes : ByteArray} {ret ret0 : Option FieldType} {rm : Room} {As st0 : List Value} {F : Option Unit} {f : Unit → Option β} {r : β}
    (C : gC p s m args meth c cc nL own ret0) (hE : gE k A s) (hS : va_S A s.heap H locs) (hf : F.bind f = some r) (hM : F = some () → jMet l y (ws_ y bytes maxL ret) rm As k A none) (cw : cS own index y bytes maxL ret n) (hz : rm.cells = 0 ∧ rm.slots = 0) (hR : cR rm R maxL)
    (hn : As.length = n) (hsize : ls.size = nL) (hst : st0 = As.reverse ++ rest) (hW : (rest.map fun v => v.category).sum ≤ 8) (hfit : cells ≤ R.cells ∧ slots ≤ R.slots) (hdg : decode cc pc = .ok (.invokestatic index, 3))
    (kk : f () = some r → W p l e R s m args below meth c H locs cells slots Q (F0 m (pc + 3) ls rest)) : W p l e R s m args below meth c H locs cells slots Q (F0 m pc ls st0) :=
  j_callS (mk := fun (_ : Unit) => none) C hE hS hf (fun _ h => hM h) cw hz hR hn hsize hst hW hfit hdg (fun _ h => kk h)
end JH
abbrev rmJp_checkIndex : Room := { frames := 0, cells := 0, slots := 0, locals := 0 }
def fJp_checkIndex (N : Nat) (l0 l1 : Int32) : Option Int32 := if l0 < 0 then none else if l0 < l1 then some l0 else none
theorem smJp_checkIndex (l : Launch) (N : Nat) : ∀ (l0 l1 r : Int32), fJp_checkIndex N l0 l1 = some r → ∀ v : Value, (v = .null ∨ ∃ q, v = .ref q) → sMet l yJ4_checkIndex (ws_ yJ4_checkIndex cJ4_checkIndex 3 (some .int)) rmJp_checkIndex [.int l0, .int l1, v] (some (.int r)) := by
  intro l0 l1 r hf v hv
  rcases hv with rfl | ⟨q, rfl⟩
  · refine s_start (cc := cJ4_checkIndex) (own := RJ4) (lv := [(0, .int l0), (1, .int l1), (2, .null)]) (by decide +kernel) rfl (Nat.le_of_ble_eq_true rfl) rfl ?_
    intro p e s m args below meth c ls C hl
    have hx := C.1
    have hb := C.2.1
    rw [fJp_checkIndex] at hf
    refine lv_iload_n hx hb dJ4_checkIndex_0 rfl (lv_at hl 0 rfl) ?_
    refine b_iflt (tgt := 9) hx hb hf dJ4_checkIndex_1 (by decide) (fun hf => ?_) (fun hf => ?_)
    · cases hf
    refine lv_iload_n hx hb dJ4_checkIndex_4 rfl (lv_at hl 0 rfl) ?_
    refine lv_iload_n hx hb dJ4_checkIndex_5 rfl (lv_at hl 1 rfl) ?_
    refine b_iclt (tgt := 16) hx hb hf dJ4_checkIndex_6 (by decide) (fun hf => ?_) (fun hf => ?_)
    · refine lv_iload_n hx hb dJ4_checkIndex_16 rfl (lv_at hl 0 rfl) ?_
      exact s_iret C hf dJ4_checkIndex_17
    · cases hf
  · refine s_start (cc := cJ4_checkIndex) (own := RJ4) (lv := [(0, .int l0), (1, .int l1), (2, .ref q)]) (by decide +kernel) rfl (Nat.le_of_ble_eq_true rfl) rfl ?_
    intro p e s m args below meth c ls C hl
    have hx := C.1
    have hb := C.2.1
    rw [fJp_checkIndex] at hf
    refine lv_iload_n hx hb dJ4_checkIndex_0 rfl (lv_at hl 0 rfl) ?_
    refine b_iflt (tgt := 9) hx hb hf dJ4_checkIndex_1 (by decide) (fun hf => ?_) (fun hf => ?_)
    · cases hf
    refine lv_iload_n hx hb dJ4_checkIndex_4 rfl (lv_at hl 0 rfl) ?_
    refine lv_iload_n hx hb dJ4_checkIndex_5 rfl (lv_at hl 1 rfl) ?_
    refine b_iclt (tgt := 16) hx hb hf dJ4_checkIndex_6 (by decide) (fun hf => ?_) (fun hf => ?_)
    · refine lv_iload_n hx hb dJ4_checkIndex_16 rfl (lv_at hl 0 rfl) ?_
      exact s_iret C hf dJ4_checkIndex_17
    · cases hf
theorem cqJs_Jp_checkIndex : cS "java/lang/String" 1059 yJ4_checkIndex cJ4_checkIndex 3 (some .int) 3 := ⟨lw_S q501 q502 q162 q503, by decide +kernel⟩
abbrev rmJs_checkIndex : Room := { frames := 1, cells := 0, slots := 0, locals := 22 }
def fJs_checkIndex (N : Nat) (l0 l1 : Int32) : Option Unit := (fJp_checkIndex N l0 l1).bind fun _ => some ()
theorem smJs_checkIndex (l : Launch) (N : Nat) {k : kO} {A : Nat → Prop} : ∀ (l0 l1 : Int32), fJs_checkIndex N l0 l1 = some () → jMet l yJ2_checkIndex (ws_ yJ2_checkIndex cJ2_checkIndex 2 none) rmJs_checkIndex [.int l0, .int l1] k A none := by
  intro l0 l1 hf
  refine j_start (cc := cJ2_checkIndex) (own := RJ2) (by decide +kernel) rfl (Nat.le_of_ble_eq_true rfl) rfl ?_
  intro p e s m args below meth c ls C hl
  have hx := C.1.1
  have hb := C.1.2.1
  have hown := C.1.2.2.2.1
  have hts := C.1.2.2.2.2.1
  have hE := C.2
  rw [fJs_checkIndex] at hf
  refine lv_iload_n hx hb dJ2_checkIndex_0 rfl (lv_at hl 0 rfl) ?_
  refine lv_iload_n hx hb dJ2_checkIndex_1 rfl (lv_at hl 1 rfl) ?_
  refine va_gets hx hb hE.2.2.1 va_S.rf hown (hts _ q499) (fun _ h => h) dJ2_checkIndex_2 ?_
  refine g_calliS (rest := []) C.1 hf (fun v h => smJp_checkIndex l N _ _ _ h _ hE.2.2.2) cqJs_Jp_checkIndex ⟨rfl, rfl⟩ ⟨Nat.le_of_ble_eq_true rfl, Nat.le_of_ble_eq_true rfl⟩ rfl hl.1 rfl (Nat.le_of_ble_eq_true rfl) ⟨Nat.zero_le _, Nat.zero_le _⟩ dJ2_checkIndex_5 (fun v hf => ?_)
  refine lv_pop hx hb dJ2_checkIndex_8 rfl ?_
  exact s_vret C.1 dJ2_checkIndex_9
