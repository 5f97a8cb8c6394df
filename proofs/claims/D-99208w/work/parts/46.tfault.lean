/-! A FAULT IS MADE: Throwable, Exception, Fault -/
set_option maxRecDepth 100000
theorem sTD_sTD {x : TS} {q : Nat} {e e1 : DE} : sTD (sTD x q e) q e1 = sTD x q e1 := by
  unfold sTD
  refine congrArg (Prod.mk x.1) (congrArg (Prod.mk x.2.1) (congrArg (Prod.mk x.2.2.1) (congrArg (Prod.mk x.2.2.2.1) (congrArg (Prod.mk x.2.2.2.2.1) (congrArg (Prod.mk x.2.2.2.2.2.1) (congrArg (Prod.mk x.2.2.2.2.2.2.1) ?_))))))
  refine congrArg (fun f => (f, x.2.2.2.2.2.2.2.2)) ?_
  funext j
  by_cases h : j = q <;> simp [h]
theorem sTD_self {x : TS} {q : Nat} {e : DE} (h : tD x q = some e) : sTD x q e = x := by
  unfold sTD
  have : (fun j => if j = q then some e else x.2.2.2.2.2.2.2.1 j) = x.2.2.2.2.2.2.2.1 := by
    funext j
    by_cases hj : j = q
    · subst hj; rw [if_pos rfl]; exact h.symm
    · rw [if_neg hj]
  rw [this]
  rfl
theorem tD_sTD {x : TS} {q : Nat} {e : DE} : tD (sTD x q e) q = some e := by
  show (if q = q then some e else _) = _
  rw [if_pos rfl]
theorem tyX4_7 : ∀ k, k < 8 → parseFieldDescriptor (TX4 k).2.2.1 = some (tyX4 k) := tyX4_ok
section TH
variable {p : Program} {l : Launch} {e : Env} {R : Room} {s : State} {m : MethodId} {args : Array Value} {below : List Frame} {meth : Method} {c : Code} {H : Heap} {locs : List Loc} {Q : State → Prop}
variable {cc : ByteArray} {pc nL cells slots fr lo : Nat} {ls : Array Slot} {rest : List Value} {w : tO} {A : Nat → Prop} {B : Nat × Nat} {x : TS} {ret0 : Option FieldType} {own : String}
theorem t_fput {k index q : Nat} {v : Value} {fs : List Value} {ref : String} {ty : FieldType} (C : tCx w A p s m args meth c cc nL own ret0) (hI : tI w A B (sTD x q (dO 4 fs)) s.heap H locs) (hk : k < 8) (hl : k < fs.length) (hlink : Cond.fieldLink own index ref (TX4 k).2.1 (TX4 k).2.2.1 ∈ lw_all) (hsame : (TX4 k).1 = ref) (hfin : (TX4 k).2.2.2 = false) (hd : parseFieldDescriptor (TX4 k).2.2.1 = some ty) (hn : narrow ty v = v) (hfit : fits ty v = true) (hdg : decode cc pc = .ok (.putfield index, 3))
    (kk : ∀ H locs, tI w A B (sTD x q (dO 4 (fs.set k v))) s.heap H locs → W p l e R s m args below meth c H locs (tZ x - s.heap.size) (tY x - SL s.heap) Q (F0 m (pc + 3) ls rest)) : W p l e R s m args below meth c H locs cells slots Q (F0 m pc ls (v :: .ref q :: rest)) := by
  have hat : va_at (wD w) clz (q, .inr (4, fs)) H := hI.at (TK_d tD_sTD)
  refine x_put (D := wD w) (own := own) (ref := ref) (C := RX4) (T := TX4) (N := 8) (ci := 4) C.1.1 C.1.2.1 C.1.2.2.2.2.1 in_X4 tyX4 tyX4_ok nmX4 C.1.2.2.2.1 C.2.1 hat rfl hk (C.1.2.2.2.2.1 _ hlink) (fun _ h => by rw [hsame] at h; exact h) hfin hd hn hfit hl hdg fun H1 i g1 g2 => ?_
  have hU := TK_dyn (w := w) (x := sTD x q (dO 4 fs)) (q := q) (e := dO 4 (fs.set k v))
  rw [sTD_sTD] at hU
  have hI1 := tI.set (i := i) (e := dO 4 (fs.set k v)) hI (TK_d tD_sTD) g1 g2 hU rfl rfl rfl
  exact t_tight hI1 (kk _ _ hI1)
theorem zq_val {C0 n d : String} {U : State} {H : Heap} (h : va_Zq C0 n d A U H) : ∃ u : Option Nat, va_Z C0 n d (va_rf u) A U H := by
  rcases h with h | ⟨t, h⟩
  · exact ⟨none, h⟩
  · exact ⟨some t, h⟩
theorem rf_nar {u : Option Nat} {ty : FieldType} (h : ty = .object "java/util/List" ∨ ty = .array (.object "java/lang/StackTraceElement")) : narrow ty (va_rf u) = va_rf u ∧ fits ty (va_rf u) = true := by
  rcases h with rfl | rfl <;> cases u <;> exact ⟨rfl, rfl⟩
end TH
theorem tmTh_init (l : Launch) {w : tO} {A : Nat → Prop} {B : Nat × Nat} {x : TS} {q : Nat} {a4 a5 a6 a7 : Value} (hd : tD x q = some (dO 4 [.null, .null, .null, .null, a4, a5, a6, a7])) : tMet l yJ7_init_2 (ws_ yJ7_init_2 cJ7_init_2 5 none) 1 40 [.ref q, .null, .null, .int 0, .int 0] w A B x none x := by
  refine t_start (cc := cJ7_init_2) (own := RJ7) (by decide +kernel) rfl (Nat.le_of_ble_eq_true rfl) rfl ?_
  intro p e s m args below meth c ls H locs C hmn hI hl
  have hx := C.1.1
  have hb := C.1.2.1
  have hown := C.1.2.2.2.1
  have hts := C.1.2.2.2.2.1
  have hI : tI w A B (sTD x q (dO 4 [.null, .null, .null, .null, a4, a5, a6, a7])) s.heap H locs := by rw [sTD_self hd]; exact hI
  obtain ⟨u1, hu1⟩ := zq_val C.2.2.2.2.2.2.1
  obtain ⟨u2, hu2⟩ := zq_val C.2.2.2.2.2.2.2.1
  refine lv_aload_n hx hb dJ7_init_2_0 rfl (lv_at hl 0 rfl) ?_
  refine W.objInit hx hb hown (hts _ q622) (hts _ q183) (hts _ q184) rfl (hl.1.trans C.1.2.2.1.symm) rfl dJ7_init_2_1 (Nat.le_of_ble_eq_true rfl) (Nat.le_of_ble_eq_true rfl) ?_
  refine W.eq (g2 := F0 m 4 ls []) rfl ?_
  refine lv_aload_n hx hb dJ7_init_2_4 rfl (lv_at hl 0 rfl) ?_
  refine lv_aload_n hx hb dJ7_init_2_5 rfl (lv_at hl 0 rfl) ?_
  refine t_fput (k := 0) C hI (by decide) (Nat.le_of_ble_eq_true rfl) q651 rfl rfl (tyX4_ok 0 (by decide)) rfl rfl dJ7_init_2_6 (fun H locs hI => ?_)
  refine lv_aload_n hx hb dJ7_init_2_9 rfl (lv_at hl 0 rfl) ?_
  refine va_gets hx hb hu1 hI.2.2.1 hown (hts _ q623) (fun _ h => h) dJ7_init_2_10 ?_
  refine t_fput (k := 1) C hI (by decide) (Nat.le_of_ble_eq_true rfl) q652 rfl rfl (tyX4_ok 1 (by decide)) (rf_nar (Or.inr rfl)).1 (rf_nar (Or.inr rfl)).2 dJ7_init_2_13 (fun H locs hI => ?_)
  refine lv_aload_n hx hb dJ7_init_2_16 rfl (lv_at hl 0 rfl) ?_
  refine va_gets hx hb hu2 hI.2.2.1 hown (hts _ q625) (fun _ h => h) dJ7_init_2_17 ?_
  refine t_fput (k := 2) C hI (by decide) (Nat.le_of_ble_eq_true rfl) q653 rfl rfl (tyX4_ok 2 (by decide)) (rf_nar (Or.inl rfl)).1 (rf_nar (Or.inl rfl)).2 dJ7_init_2_20 (fun H locs hI => ?_)
  refine lv_iload hx hb dJ7_init_2_23 (lv_at hl 4 rfl) ?_
  refine lv_if_eq (tgt := 36) hx hb dJ7_init_2_25 (by decide) (fun _ => ?_) (fun hc => absurd rfl hc)
  refine lv_aload_n hx hb dJ7_init_2_36 rfl (lv_at hl 0 rfl) ?_
  refine lv_null hx hb dJ7_init_2_37 ?_
  refine t_fput (k := 1) C hI (by decide) (Nat.le_of_ble_eq_true rfl) q652 rfl rfl (tyX4_ok 1 (by decide)) rfl rfl dJ7_init_2_38 (fun H locs hI => ?_)
  refine lv_aload_n hx hb dJ7_init_2_41 rfl (lv_at hl 0 rfl) ?_
  refine lv_aload_nN hx hb dJ7_init_2_42 rfl (lv_at hl 1 rfl) ?_
  refine t_fput (k := 3) C hI (by decide) (Nat.le_of_ble_eq_true rfl) q650 rfl rfl (tyX4_ok 3 (by decide)) rfl rfl dJ7_init_2_43 (fun H locs hI => ?_)
  refine lv_aload_n hx hb dJ7_init_2_46 rfl (lv_at hl 0 rfl) ?_
  refine lv_aload_nN hx hb dJ7_init_2_47 rfl (lv_at hl 2 rfl) ?_
  refine t_fput (k := 0) C hI (by decide) (Nat.le_of_ble_eq_true rfl) q651 rfl rfl (tyX4_ok 0 (by decide)) rfl rfl dJ7_init_2_48 (fun H locs hI => ?_)
  refine lv_iload_n hx hb dJ7_init_2_51 rfl (lv_at hl 3 rfl) ?_
  refine lv_if_ne (tgt := 60) hx hb dJ7_init_2_52 (by decide) (fun hc => absurd rfl hc) (fun _ => ?_)
  refine lv_aload_n hx hb dJ7_init_2_55 rfl (lv_at hl 0 rfl) ?_
  refine lv_null hx hb dJ7_init_2_56 ?_
  refine t_fput (k := 2) C hI (by decide) (Nat.le_of_ble_eq_true rfl) q653 rfl rfl (tyX4_ok 2 (by decide)) rfl rfl dJ7_init_2_57 (fun H locs hI => ?_)
  have hI2 : tI w A B x s.heap H locs := by
    have h : sTD x q (dO 4 [.null, .null, .null, .null, a4, a5, a6, a7]) = x := sTD_self hd
    rw [← h]; exact hI
  exact t_vret C hI2 rfl dJ7_init_2_60
theorem cn_Th_init : cN yJ7_init_2 cJ7_init_2 5 none 4 := ⟨lw_meth q644, q165, by decide +kernel⟩
theorem tmEx_init (l : Launch) {w : tO} {A : Nat → Prop} {B : Nat × Nat} {x : TS} {q : Nat} {a4 a5 a6 a7 : Value} (hd : tD x q = some (dO 4 [.null, .null, .null, .null, a4, a5, a6, a7])) : tMet l yJ8_init (ws_ yJ8_init cJ8_init 5 none) 2 80 [.ref q, .null, .null, .int 0, .int 0] w A B x none x := by
  refine t_start (cc := cJ8_init) (own := RJ8) (by decide +kernel) rfl (Nat.le_of_ble_eq_true rfl) rfl ?_
  intro p e s m args below meth c ls H locs C hmn hI hl
  have hx := C.1.1
  have hb := C.1.2.1
  refine lv_aload_n hx hb dJ8_init_0 rfl (lv_at hl 0 rfl) ?_
  refine lv_aload_nN hx hb dJ8_init_1 rfl (lv_at hl 1 rfl) ?_
  refine lv_aload_nN hx hb dJ8_init_2 rfl (lv_at hl 2 rfl) ?_
  refine lv_iload_n hx hb dJ8_init_3 rfl (lv_at hl 3 rfl) ?_
  refine lv_iload hx hb dJ8_init_4 (lv_at hl 4 rfl) ?_
  refine t_callI0 (rest := []) C hI (tmTh_init l hd) rfl q643 q642 cn_Th_init ⟨Nat.le_of_ble_eq_true rfl, Nat.le_of_ble_eq_true rfl⟩ rfl hl.1 rfl (Nat.le_of_ble_eq_true rfl) dJ8_init_6 (fun H locs hI => ?_)
  exact t_vret C hI rfl dJ8_init_9
theorem cn_Ex_init : cN yJ8_init cJ8_init 5 none 4 := ⟨lw_meth q641, q166, by decide +kernel⟩
/-- Fault(kind, place) -/
def fFa_init (x : TS) (q : Nat) (k pl : Int32) : Option TS := match tD x q with
  | some (.inl (4, [.null, .null, .null, .null, a4, a5, _, _])) => some (sTD x q (dO 4 [.null, .null, .null, .null, a4, a5, .int k, .int pl]))
  | _ => none
abbrev frFa_init : Nat := 3
abbrev loFa_init : Nat := 120
theorem tmFa_init (l : Launch) {w : tO} {A : Nat → Prop} {B : Nat × Nat} : ∀ (x : TS) (q : Nat) (k pl : Int32) (xr : TS), fFa_init x q k pl = some xr → tMet l yX4_init (ws_ yX4_init cX4_init 3 none) frFa_init loFa_init [.ref q, .int k, .int pl] w A B x none xr := by
  intro x q k pl xr hf
  unfold fFa_init at hf
  split at hf
  · rename_i a4 a5 a6 a7 hd
    cases hf
    refine t_start (cc := cX4_init) (own := RX4) (by decide +kernel) rfl (Nat.le_of_ble_eq_true rfl) rfl ?_
    intro p e s m args below meth c ls H locs C hmn hI hl
    have hx := C.1.1
    have hb := C.1.2.1
    refine lv_aload_n hx hb dX4_init_0 rfl (lv_at hl 0 rfl) ?_
    refine lv_null hx hb dX4_init_1 ?_
    refine lv_null hx hb dX4_init_2 ?_
    refine lv_iconst (v := 0) hx hb dX4_init_3 (by decide) ?_
    refine lv_iconst (v := 0) hx hb dX4_init_4 (by decide) ?_
    refine t_callI0 (rest := []) C hI (tmEx_init l hd) rfl q640 q639 cn_Ex_init ⟨Nat.le_of_ble_eq_true rfl, Nat.le_of_ble_eq_true rfl⟩ rfl hl.1 rfl (Nat.le_of_ble_eq_true rfl) dX4_init_5 (fun H locs hI => ?_)
    refine lv_aload_n hx hb dX4_init_8 rfl (lv_at hl 0 rfl) ?_
    refine lv_iload_n hx hb dX4_init_9 rfl (lv_at hl 1 rfl) ?_
    have e1 : (dpt x q 4 6 (.int k)).bind (fun z => some z) = some (sTD x q (dO 4 [.null, .null, .null, .null, a4, a5, .int k, a7])) := by
      unfold dpt; rw [hd]; rfl
    refine t_dputF (k := 6) C hI hmn e1 rfl in_X4 tyX4 tyX4_ok nmX4 (by decide) q645 rfl rfl rfl (tyX4_ok 6 (by decide)) rfl rfl dX4_init_10 (fun x2 H locs hI hf => ?_)
    cases hf
    refine lv_aload_n hx hb dX4_init_13 rfl (lv_at hl 0 rfl) ?_
    refine lv_iload_n hx hb dX4_init_14 rfl (lv_at hl 2 rfl) ?_
    have e2 : (dpt (sTD x q (dO 4 [.null, .null, .null, .null, a4, a5, .int k, a7])) q 4 7 (.int pl)).bind (fun z => some z) = some (sTD x q (dO 4 [.null, .null, .null, .null, a4, a5, .int k, .int pl])) := by
      unfold dpt; rw [tD_sTD]
      show some (sTD (sTD x q _) q _) = _
      rw [sTD_sTD]; rfl
    refine t_dputF (k := 7) C hI hmn e2 rfl in_X4 tyX4 tyX4_ok nmX4 (by decide) q647 rfl rfl rfl (tyX4_ok 7 (by decide)) rfl rfl dX4_init_15 (fun x2 H locs hI hf => ?_)
    cases hf
    exact t_vret C hI rfl dX4_init_18
  · cases hf
