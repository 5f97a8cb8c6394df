set_option maxRecDepth 100000
variable {p : Program} {l : Launch} {e : Env} {R : Room} {s : State} {m : MethodId} {args : Array Value} {below : List Frame} {meth : Method} {c : Code} {H : Heap} {locs : List Loc} {Q : State → Prop}
variable {w : tO} {A : Nat → Prop}
/-! TwelveChain$Text.<init>()V -/
theorem ymTx_init (l : Launch) (N : Nat) {w : tO} {A : Nat → Prop} (B : Nat × Nat) : ∀ (x : TS) (l0 : Nat) (xr : TS), fTx_init N B x l0 = some xr → yMet l yX1_init (ws_ yX1_init cX1_init 1 none) frTx_init loTx_init [.ref l0] w A B x none xr := by
  intro x l0 xr hf
  refine y_start (cc := cX1_init) (own := RX1) (by decide +kernel) rfl (Nat.le_of_ble_eq_true rfl) rfl ?_
  intro p e s m args below meth c ls H locs C hmn hI hl
  have hx := C.1.1
  have hb := C.1.2.1
  have hown := C.1.2.2.2.1
  have hts := C.1.2.2.2.2.1
  have hE := C.2.2
  rw [fTx_init] at hf
  refine lv_aload_n hx hb dX1_init_0 rfl (lv_at hl 0 rfl) ?_
  refine W.objInit hx hb hown (hts _ q218) (hts _ q183) (hts _ q184) rfl (hl.1.trans C.1.2.2.1.symm) rfl dX1_init_1 (Nat.le_of_ble_eq_true rfl) (Nat.le_of_ble_eq_true rfl) ?_
  refine W.eq (g2 := F0 m 4 ls []) rfl ?_
  refine lv_aload_n hx hb dX1_init_4 rfl (lv_at hl 0 rfl) ?_
  refine lv_bipush (v := 16) hx hb dX1_init_5 (by decide) ?_
  refine y_newI (atype := .int) (code := 0) (N' := 16) C hI hf rfl (Or.inl rfl) q238 rfl (by decide) rfl (Nat.le_of_ble_eq_true rfl) dX1_init_7 (fun q1 x2 H locs hI hf => ?_)
  refine y_dputF (k := 0) C hI hmn hf rfl in_X1 tyX1 tyX1_ok nmX1 (by decide) q221 rfl rfl rfl (tyX1_ok 0 (by decide)) rfl rfl dX1_init_9 (fun x3 H locs hI hf => ?_)
  refine lv_aload_n hx hb dX1_init_12 rfl (lv_at hl 0 rfl) ?_
  refine lv_bipush (v := 16) hx hb dX1_init_13 (by decide) ?_
  refine y_newR1 (code := 4) C hI hf rfl (by decide) q219 dX1_init_15 (fun q4 x5 H locs hI hf => ?_)
  refine y_dputF (k := 1) C hI hmn hf rfl in_X1 tyX1 tyX1_ok nmX1 (by decide) q223 rfl rfl rfl (tyX1_ok 1 (by decide)) rfl rfl dX1_init_18 (fun x6 H locs hI hf => ?_)
  refine lv_aload_n hx hb dX1_init_21 rfl (lv_at hl 0 rfl) ?_
  refine lv_bipush (v := 16) hx hb dX1_init_22 (by decide) ?_
  refine y_newR1 (code := 4) C hI hf rfl (by decide) q219 dX1_init_24 (fun q7 x8 H locs hI hf => ?_)
  refine y_dputF (k := 2) C hI hmn hf rfl in_X1 tyX1 tyX1_ok nmX1 (by decide) q225 rfl rfl rfl (tyX1_ok 2 (by decide)) rfl rfl dX1_init_27 (fun x9 H locs hI hf => ?_)
  exact y_vret C hI hf dX1_init_30
/-! TwelveChain$Chain.<init>(LTwelveChain;)V -/
theorem ymC_init (l : Launch) (N : Nat) {w : tO} {A : Nat → Prop} (B : Nat × Nat) : ∀ (x : TS) (l0 : Nat) (l1 : Nat) (xr : TS), fC_init N B x l0 l1 = some xr → yMet l yX2_init (ws_ yX2_init cX2_init 2 none) frC_init loC_init [.ref l0, .ref l1] w A B x none xr := by
  intro x l0 l1 xr hf
  refine y_start (cc := cX2_init) (own := RX2) (by decide +kernel) rfl (Nat.le_of_ble_eq_true rfl) rfl ?_
  intro p e s m args below meth c ls H locs C hmn hI hl
  have hx := C.1.1
  have hb := C.1.2.1
  have hown := C.1.2.2.2.1
  have hts := C.1.2.2.2.2.1
  have hE := C.2.2
  rw [fC_init] at hf
  refine lv_aload_n hx hb dX2_init_0 rfl (lv_at hl 0 rfl) ?_
  refine lv_aload_n hx hb dX2_init_1 rfl (lv_at hl 1 rfl) ?_
  refine y_dputF (k := 13) C hI hmn hf rfl in_X2 tyX2 tyX2_ok nmX2 (by decide) q276 rfl rfl rfl (tyX2_ok 13 (by decide)) rfl rfl dX2_init_2 (fun x1 H locs hI hf => ?_)
  refine lv_aload_n hx hb dX2_init_5 rfl (lv_at hl 0 rfl) ?_
  refine W.objInit hx hb hown (hts _ q250) (hts _ q183) (hts _ q184) rfl (hl.1.trans C.1.2.2.1.symm) rfl dX2_init_6 (Nat.le_of_ble_eq_true rfl) (Nat.le_of_ble_eq_true rfl) ?_
  refine W.eq (g2 := F0 m 9 ls []) rfl ?_
  refine lv_aload_n hx hb dX2_init_9 rfl (lv_at hl 0 rfl) ?_
  refine lv_bipush (v := 12) hx hb dX2_init_10 (by decide) ?_
  refine y_newI (atype := .int) (code := 0) (N' := 12) C hI hf rfl (Or.inl rfl) q238 rfl (by decide) rfl (Nat.le_of_ble_eq_true rfl) dX2_init_12 (fun q2 x3 H locs hI hf => ?_)
  refine y_dputF (k := 0) C hI hmn hf rfl in_X2 tyX2 tyX2_ok nmX2 (by decide) q251 rfl rfl rfl (tyX2_ok 0 (by decide)) rfl rfl dX2_init_14 (fun x4 H locs hI hf => ?_)
  refine lv_aload_n hx hb dX2_init_17 rfl (lv_at hl 0 rfl) ?_
  refine lv_bipush (v := 12) hx hb dX2_init_18 (by decide) ?_
  refine y_newI (atype := .int) (code := 0) (N' := 12) C hI hf rfl (Or.inl rfl) q238 rfl (by decide) rfl (Nat.le_of_ble_eq_true rfl) dX2_init_20 (fun q5 x6 H locs hI hf => ?_)
  refine y_dputF (k := 1) C hI hmn hf rfl in_X2 tyX2 tyX2_ok nmX2 (by decide) q253 rfl rfl rfl (tyX2_ok 1 (by decide)) rfl rfl dX2_init_22 (fun x7 H locs hI hf => ?_)
  refine lv_aload_n hx hb dX2_init_25 rfl (lv_at hl 0 rfl) ?_
  refine lv_bipush (v := 12) hx hb dX2_init_26 (by decide) ?_
  refine y_newI (atype := .int) (code := 0) (N' := 12) C hI hf rfl (Or.inl rfl) q238 rfl (by decide) rfl (Nat.le_of_ble_eq_true rfl) dX2_init_28 (fun q8 x9 H locs hI hf => ?_)
  refine y_dputF (k := 2) C hI hmn hf rfl in_X2 tyX2 tyX2_ok nmX2 (by decide) q255 rfl rfl rfl (tyX2_ok 2 (by decide)) rfl rfl dX2_init_30 (fun x10 H locs hI hf => ?_)
  refine lv_aload_n hx hb dX2_init_33 rfl (lv_at hl 0 rfl) ?_
  refine lv_bipush (v := 12) hx hb dX2_init_34 (by decide) ?_
  refine y_newI (atype := .int) (code := 0) (N' := 12) C hI hf rfl (Or.inl rfl) q238 rfl (by decide) rfl (Nat.le_of_ble_eq_true rfl) dX2_init_36 (fun q11 x12 H locs hI hf => ?_)
  refine y_dputF (k := 3) C hI hmn hf rfl in_X2 tyX2 tyX2_ok nmX2 (by decide) q257 rfl rfl rfl (tyX2_ok 3 (by decide)) rfl rfl dX2_init_38 (fun x13 H locs hI hf => ?_)
  refine lv_aload_n hx hb dX2_init_41 rfl (lv_at hl 0 rfl) ?_
  refine lv_bipush (v := 12) hx hb dX2_init_42 (by decide) ?_
  refine y_newI (atype := .int) (code := 0) (N' := 12) C hI hf rfl (Or.inl rfl) q238 rfl (by decide) rfl (Nat.le_of_ble_eq_true rfl) dX2_init_44 (fun q14 x15 H locs hI hf => ?_)
  refine y_dputF (k := 4) C hI hmn hf rfl in_X2 tyX2 tyX2_ok nmX2 (by decide) q259 rfl rfl rfl (tyX2_ok 4 (by decide)) rfl rfl dX2_init_46 (fun x16 H locs hI hf => ?_)
  exact y_vret C hI hf dX2_init_49
/-! TwelveChain.<init>()V -/
abbrev frT_init : Nat := 2
abbrev loT_init : Nat := 33
def fT_init (N : Nat) (B : Nat × Nat) (ks : Nat → Nat) (x : TS) (l0 : Nat) : Option TS :=
  b2 (alc B x 400 (dI 1 400 (fun _ => 0))) fun q1 x2 =>
  (dpt x2 l0 0 0 (.ref q1)).bind fun x3 =>
  b2 (nwR B x3 3 4) fun q4 x5 =>
  b2 (nwR B x5 2 4) fun q6 x7 =>
  (dRq x7 q6 2 0 (ks 0)).bind fun x8 =>
  (dRq x8 q6 2 1 (ks 1)).bind fun x9 =>
  (dRq x9 q6 2 2 (ks 2)).bind fun x10 =>
  (dRq x10 q6 2 3 (ks 3)).bind fun x11 =>
  (dRa x11 q4 0 q6).bind fun x12 =>
  b2 (nwR B x12 2 5) fun q13 x14 =>
  (dRq x14 q13 2 0 (ks 4)).bind fun x15 =>
  (dRq x15 q13 2 1 (ks 5)).bind fun x16 =>
  (dRq x16 q13 2 2 (ks 6)).bind fun x17 =>
  (dRq x17 q13 2 3 (ks 7)).bind fun x18 =>
  (dRq x18 q13 2 4 (ks 8)).bind fun x19 =>
  (dRa x19 q4 1 q13).bind fun x20 =>
  b2 (nwR B x20 2 3) fun q21 x22 =>
  (dRq x22 q21 2 0 (ks 9)).bind fun x23 =>
  (dRq x23 q21 2 1 (ks 10)).bind fun x24 =>
  (dRq x24 q21 2 2 (ks 11)).bind fun x25 =>
  (dRa x25 q4 2 q21).bind fun x26 =>
  b2 (nwR B x26 2 2) fun q27 x28 =>
  (dRq x28 q27 2 0 (ks 12)).bind fun x29 =>
  (dRq x29 q27 2 1 (ks 9)).bind fun x30 =>
  (dRa x30 q4 3 q27).bind fun x31 =>
  (dpt x31 l0 0 2 (.ref q4)).bind fun x32 =>
  b2 (nwR B x32 2 9) fun q33 x34 =>
  (dRq x34 q33 2 0 (ks 9)).bind fun x35 =>
  (dRq x35 q33 2 1 (ks 13)).bind fun x36 =>
  (dRq x36 q33 2 2 (ks 14)).bind fun x37 =>
  (dRq x37 q33 2 3 (ks 15)).bind fun x38 =>
  (dRq x38 q33 2 4 (ks 16)).bind fun x39 =>
  (dRq x39 q33 2 5 (ks 12)).bind fun x40 =>
  (dRq x40 q33 2 6 (ks 17)).bind fun x41 =>
  (dRq x41 q33 2 7 (ks 18)).bind fun x42 =>
  (dRq x42 q33 2 8 (ks 19)).bind fun x43 =>
  (dpt x43 l0 0 3 (.ref q33)).bind fun x44 =>
  b2 (nwR B x44 2 4) fun q45 x46 =>
  (dRq x46 q45 2 0 (ks 20)).bind fun x47 =>
  (dRq x47 q45 2 1 (ks 21)).bind fun x48 =>
  (dRq x48 q45 2 2 (ks 22)).bind fun x49 =>
  (dRq x49 q45 2 3 (ks 23)).bind fun x50 =>
  (dpt x50 l0 0 4 (.ref q45)).bind fun x51 =>
  b2 (nwR B x51 2 0) fun q52 x53 =>
  (dpt x53 l0 0 5 (.ref q52)).bind fun x54 =>
  (dgR x54 l0 0 5).bind fun o55 =>
  o55.bind fun q56 =>
  (dpt x54 l0 0 6 (.ref q56)).bind fun x57 =>
  (dgR x57 l0 0 5).bind fun o58 =>
  o58.bind fun q59 =>
  (dpt x57 l0 0 7 (.ref q59)).bind fun x60 =>
  (dgR x60 l0 0 5).bind fun o61 =>
  o61.bind fun q62 =>
  (dpt x60 l0 0 8 (.ref q62)).bind fun x63 =>
  (dpt x63 l0 0 15 (.int (-1))).bind fun x64 =>
  b2 (alc B x64 4 (dO 2 [.null, .null, .null, .int 0])) fun q65 x66 =>
  (fTx_init N B x66 q65).bind fun x67 =>
  (dpt x67 l0 0 16 (.ref q65)).bind fun x68 =>
  b2 (alc B x68 9 (dI 0 9 (fun _ => 0))) fun q69 x70 =>
  (dpt x70 l0 0 17 (.ref q69)).bind fun x71 =>
  b2 (nwR B x71 5 0) fun q72 x73 =>
  (dpt x73 l0 0 18 (.ref q72)).bind fun x74 =>
  b2 (nwR B x74 6 0) fun q75 x76 =>
  (dpt x76 l0 0 19 (.ref q75)).bind fun x77 =>
  b2 (nwR B x77 7 0) fun q78 x79 =>
  (dpt x79 l0 0 20 (.ref q78)).bind fun x80 =>
  b2 (alc B x80 14 (dO 1 [.null, .null, .null, .null, .null, .int 0, .int 0, .int 0, .int 0, .int 0, .int 0, .int 0, .int 0, .null])) fun q81 x82 =>
  (fC_init N B x82 q81 l0).bind fun x83 =>
  (dpt x83 l0 0 22 (.ref q81)).bind fun x84 =>
  b2 (alc B x84 14 (dO 1 [.null, .null, .null, .null, .null, .int 0, .int 0, .int 0, .int 0, .int 0, .int 0, .int 0, .int 0, .null])) fun q85 x86 =>
  (fC_init N B x86 q85 l0).bind fun x87 =>
  (dpt x87 l0 0 23 (.ref q85)).bind fun x88 =>
  b2 (alc B x88 14 (dO 1 [.null, .null, .null, .null, .null, .int 0, .int 0, .int 0, .int 0, .int 0, .int 0, .int 0, .int 0, .null])) fun q89 x90 =>
  (fC_init N B x90 q89 l0).bind fun x91 =>
  (dpt x91 l0 0 24 (.ref q89)).bind fun x92 =>
  b2 (alc B x92 600 (dI 0 600 (fun _ => 0))) fun q93 x94 =>
  (dpt x94 l0 0 25 (.ref q93)).bind fun x95 =>
  b2 (nwR B x95 8 6) fun q96 x97 =>
  (dpt x97 l0 0 26 (.ref q96)).bind fun x98 =>
  b2 (alc B x98 4096 (dI 0 4096 (fun _ => 0))) fun q99 x100 =>
  (dpt x100 l0 0 28 (.ref q99)).bind fun x101 =>
  b2 (alc B x101 12 (dI 0 12 (fun _ => 0))) fun q102 x103 =>
  (dpt x103 l0 0 29 (.ref q102)).bind fun x104 =>
  b2 (alc B x104 12 (dI 0 12 (fun _ => 0))) fun q105 x106 =>
  (dpt x106 l0 0 30 (.ref q105)).bind fun x107 =>
  b2 (alc B x107 600 (dI 0 600 (fun _ => 0))) fun q108 x109 =>
  (dpt x109 l0 0 31 (.ref q108)).bind fun x110 =>
  some x110
theorem ymT_init (l : Launch) (N : Nat) {w : tO} {A : Nat → Prop} (B : Nat × Nat) : ∀ (x : TS) (l0 : Nat) (xr : TS), fT_init N B (wk w).1 x l0 = some xr → yMet l yX0_init (ws_ yX0_init cX0_init 1 none) frT_init loT_init [.ref l0] w A B x none xr := by
  intro x l0 xr hf
  refine y_start (cc := cX0_init) (own := RX0) (by decide +kernel) rfl (Nat.le_of_ble_eq_true rfl) rfl ?_
  intro p e s m args below meth c ls H locs C hmn hI hl
  have hx := C.1.1
  have hb := C.1.2.1
  have hown := C.1.2.2.2.1
  have hts := C.1.2.2.2.2.1
  have hE := C.2.2
  rw [fT_init] at hf
  refine lv_aload_n hx hb dX0_init_0 rfl (lv_at hl 0 rfl) ?_
  refine W.objInit hx hb hown (hts _ q182) (hts _ q183) (hts _ q184) rfl (hl.1.trans C.1.2.2.1.symm) rfl dX0_init_1 (Nat.le_of_ble_eq_true rfl) (Nat.le_of_ble_eq_true rfl) ?_
  refine W.eq (g2 := F0 m 4 ls []) rfl ?_
  refine lv_aload_n hx hb dX0_init_4 rfl (lv_at hl 0 rfl) ?_
  refine lv_sipush (v := 400) hx hb dX0_init_5 (by decide) ?_
  refine y_newI (atype := .byte) (code := 1) (N' := 400) C hI hf rfl (Or.inr rfl) q237 rfl (by decide) rfl (Nat.le_of_ble_eq_true rfl) dX0_init_8 (fun q1 x2 H locs hI hf => ?_)
  refine y_dputF (k := 0) C hI hmn hf rfl in_X0 tyX0 tyX0_ok nmX0 (by decide) q307 rfl rfl rfl (tyX0_ok 0 (by decide)) rfl rfl dX0_init_10 (fun x3 H locs hI hf => ?_)
  refine lv_aload_n hx hb dX0_init_13 rfl (lv_at hl 0 rfl) ?_
  refine lv_iconst (v := 4) hx hb dX0_init_14 (by decide) ?_
  refine y_newA C hI hf q185 dX0_init_15 (fun q4 x5 H locs hI hf => ?_)
  refine lv_dup hx hb dX0_init_18 rfl ?_
  refine lv_iconst (v := 0) hx hb dX0_init_19 (by decide) ?_
  refine lv_iconst (v := 4) hx hb dX0_init_20 (by decide) ?_
  refine y_newR1 (code := 2) C hI hf rfl (by decide) q188 dX0_init_21 (fun q6 x7 H locs hI hf => ?_)
  refine lv_dup hx hb dX0_init_24 rfl ?_
  refine lv_iconst (v := 0) hx hb dX0_init_25 (by decide) ?_
  refine va_ldcS (q := (wk w).1 0) hx hb hown (hE.2.1 (44, "ready", 0) (List.mem_of_getElem? (i := 0) rfl)) dX0_init_26 ?_
  refine y_astS (j := 0) C hI (by decide) hf dX0_init_28 (fun x8 H locs hI hf => ?_)
  refine lv_dup hx hb dX0_init_29 rfl ?_
  refine lv_iconst (v := 1) hx hb dX0_init_30 (by decide) ?_
  refine va_ldcS (q := (wk w).1 1) hx hb hown (hE.2.1 (46, "leave", 1) (List.mem_of_getElem? (i := 1) rfl)) dX0_init_31 ?_
  refine y_astS (j := 1) C hI (by decide) hf dX0_init_33 (fun x9 H locs hI hf => ?_)
  refine lv_dup hx hb dX0_init_34 rfl ?_
  refine lv_iconst (v := 2) hx hb dX0_init_35 (by decide) ?_
  refine va_ldcS (q := (wk w).1 2) hx hb hown (hE.2.1 (48, "give", 2) (List.mem_of_getElem? (i := 2) rfl)) dX0_init_36 ?_
  refine y_astS (j := 2) C hI (by decide) hf dX0_init_38 (fun x10 H locs hI hf => ?_)
  refine lv_dup hx hb dX0_init_39 rfl ?_
  refine lv_iconst (v := 3) hx hb dX0_init_40 (by decide) ?_
  refine va_ldcS (q := (wk w).1 3) hx hb hown (hE.2.1 (50, "cost", 3) (List.mem_of_getElem? (i := 3) rfl)) dX0_init_41 ?_
  refine y_astS (j := 3) C hI (by decide) hf dX0_init_43 (fun x11 H locs hI hf => ?_)
  refine y_astA C hI hf dX0_init_44 (fun x12 H locs hI hf => ?_)
  refine lv_dup hx hb dX0_init_45 rfl ?_
  refine lv_iconst (v := 1) hx hb dX0_init_46 (by decide) ?_
  refine lv_iconst (v := 5) hx hb dX0_init_47 (by decide) ?_
  refine y_newR1 (code := 2) C hI hf rfl (by decide) q188 dX0_init_48 (fun q13 x14 H locs hI hf => ?_)
  refine lv_dup hx hb dX0_init_51 rfl ?_
  refine lv_iconst (v := 0) hx hb dX0_init_52 (by decide) ?_
  refine va_ldcS (q := (wk w).1 4) hx hb hown (hE.2.1 (52, "ask", 4) (List.mem_of_getElem? (i := 4) rfl)) dX0_init_53 ?_
  refine y_astS (j := 4) C hI (by decide) hf dX0_init_55 (fun x15 H locs hI hf => ?_)
  refine lv_dup hx hb dX0_init_56 rfl ?_
  refine lv_iconst (v := 1) hx hb dX0_init_57 (by decide) ?_
  refine va_ldcS (q := (wk w).1 5) hx hb hown (hE.2.1 (54, "bridge", 5) (List.mem_of_getElem? (i := 5) rfl)) dX0_init_58 ?_
  refine y_astS (j := 5) C hI (by decide) hf dX0_init_60 (fun x16 H locs hI hf => ?_)
  refine lv_dup hx hb dX0_init_61 rfl ?_
  refine lv_iconst (v := 2) hx hb dX0_init_62 (by decide) ?_
  refine va_ldcS (q := (wk w).1 6) hx hb hown (hE.2.1 (56, "pay", 6) (List.mem_of_getElem? (i := 6) rfl)) dX0_init_63 ?_
  refine y_astS (j := 6) C hI (by decide) hf dX0_init_65 (fun x17 H locs hI hf => ?_)
  refine lv_dup hx hb dX0_init_66 rfl ?_
  refine lv_iconst (v := 3) hx hb dX0_init_67 (by decide) ?_
  refine va_ldcS (q := (wk w).1 7) hx hb hown (hE.2.1 (58, "paper", 7) (List.mem_of_getElem? (i := 7) rfl)) dX0_init_68 ?_
  refine y_astS (j := 7) C hI (by decide) hf dX0_init_70 (fun x18 H locs hI hf => ?_)
  refine lv_dup hx hb dX0_init_71 rfl ?_
  refine lv_iconst (v := 4) hx hb dX0_init_72 (by decide) ?_
  refine va_ldcS (q := (wk w).1 8) hx hb hown (hE.2.1 (60, "on", 8) (List.mem_of_getElem? (i := 8) rfl)) dX0_init_73 ?_
  refine y_astS (j := 8) C hI (by decide) hf dX0_init_75 (fun x19 H locs hI hf => ?_)
  refine y_astA C hI hf dX0_init_76 (fun x20 H locs hI hf => ?_)
  refine lv_dup hx hb dX0_init_77 rfl ?_
  refine lv_iconst (v := 2) hx hb dX0_init_78 (by decide) ?_
  refine lv_iconst (v := 3) hx hb dX0_init_79 (by decide) ?_
  refine y_newR1 (code := 2) C hI hf rfl (by decide) q188 dX0_init_80 (fun q21 x22 H locs hI hf => ?_)
  refine lv_dup hx hb dX0_init_83 rfl ?_
  refine lv_iconst (v := 0) hx hb dX0_init_84 (by decide) ?_
  refine va_ldcS (q := (wk w).1 9) hx hb hown (hE.2.1 (62, "link", 9) (List.mem_of_getElem? (i := 9) rfl)) dX0_init_85 ?_
  refine y_astS (j := 9) C hI (by decide) hf dX0_init_87 (fun x23 H locs hI hf => ?_)
  refine lv_dup hx hb dX0_init_88 rfl ?_
  refine lv_iconst (v := 1) hx hb dX0_init_89 (by decide) ?_
  refine va_ldcS (q := (wk w).1 10) hx hb hown (hE.2.1 (64, "from", 10) (List.mem_of_getElem? (i := 10) rfl)) dX0_init_90 ?_
  refine y_astS (j := 10) C hI (by decide) hf dX0_init_92 (fun x24 H locs hI hf => ?_)
  refine lv_dup hx hb dX0_init_93 rfl ?_
  refine lv_iconst (v := 2) hx hb dX0_init_94 (by decide) ?_
  refine va_ldcS (q := (wk w).1 11) hx hb hown (hE.2.1 (66, "to", 11) (List.mem_of_getElem? (i := 11) rfl)) dX0_init_95 ?_
  refine y_astS (j := 11) C hI (by decide) hf dX0_init_97 (fun x25 H locs hI hf => ?_)
  refine y_astA C hI hf dX0_init_98 (fun x26 H locs hI hf => ?_)
  refine lv_dup hx hb dX0_init_99 rfl ?_
  refine lv_iconst (v := 3) hx hb dX0_init_100 (by decide) ?_
  refine lv_iconst (v := 2) hx hb dX0_init_101 (by decide) ?_
  refine y_newR1 (code := 2) C hI hf rfl (by decide) q188 dX0_init_102 (fun q27 x28 H locs hI hf => ?_)
  refine lv_dup hx hb dX0_init_105 rfl ?_
  refine lv_iconst (v := 0) hx hb dX0_init_106 (by decide) ?_
  refine va_ldcS (q := (wk w).1 12) hx hb hown (hE.2.1 (68, "day", 12) (List.mem_of_getElem? (i := 12) rfl)) dX0_init_107 ?_
  refine y_astS (j := 12) C hI (by decide) hf dX0_init_109 (fun x29 H locs hI hf => ?_)
  refine lv_dup hx hb dX0_init_110 rfl ?_
  refine lv_iconst (v := 1) hx hb dX0_init_111 (by decide) ?_
  refine va_ldcS (q := (wk w).1 9) hx hb hown (hE.2.1 (62, "link", 9) (List.mem_of_getElem? (i := 9) rfl)) dX0_init_112 ?_
  refine y_astS (j := 9) C hI (by decide) hf dX0_init_114 (fun x30 H locs hI hf => ?_)
  refine y_astA C hI hf dX0_init_115 (fun x31 H locs hI hf => ?_)
  refine y_dputF (k := 2) C hI hmn hf rfl in_X0 tyX0 tyX0_ok nmX0 (by decide) q309 rfl rfl rfl (tyX0_ok 2 (by decide)) rfl rfl dX0_init_116 (fun x32 H locs hI hf => ?_)
  refine lv_aload_n hx hb dX0_init_119 rfl (lv_at hl 0 rfl) ?_
  refine lv_bipush (v := 9) hx hb dX0_init_120 (by decide) ?_
  refine y_newR1 (code := 2) C hI hf rfl (by decide) q188 dX0_init_122 (fun q33 x34 H locs hI hf => ?_)
  refine lv_dup hx hb dX0_init_125 rfl ?_
  refine lv_iconst (v := 0) hx hb dX0_init_126 (by decide) ?_
  refine va_ldcS (q := (wk w).1 9) hx hb hown (hE.2.1 (62, "link", 9) (List.mem_of_getElem? (i := 9) rfl)) dX0_init_127 ?_
  refine y_astS (j := 9) C hI (by decide) hf dX0_init_129 (fun x35 H locs hI hf => ?_)
  refine lv_dup hx hb dX0_init_130 rfl ?_
  refine lv_iconst (v := 1) hx hb dX0_init_131 (by decide) ?_
  refine va_ldcS (q := (wk w).1 13) hx hb hown (hE.2.1 (74, "price", 13) (List.mem_of_getElem? (i := 13) rfl)) dX0_init_132 ?_
  refine y_astS (j := 13) C hI (by decide) hf dX0_init_134 (fun x36 H locs hI hf => ?_)
  refine lv_dup hx hb dX0_init_135 rfl ?_
  refine lv_iconst (v := 2) hx hb dX0_init_136 (by decide) ?_
  refine va_ldcS (q := (wk w).1 14) hx hb hown (hE.2.1 (76, "purse", 14) (List.mem_of_getElem? (i := 14) rfl)) dX0_init_137 ?_
  refine y_astS (j := 14) C hI (by decide) hf dX0_init_139 (fun x37 H locs hI hf => ?_)
  refine lv_dup hx hb dX0_init_140 rfl ?_
  refine lv_iconst (v := 3) hx hb dX0_init_141 (by decide) ?_
  refine va_ldcS (q := (wk w).1 15) hx hb hown (hE.2.1 (78, "worth", 15) (List.mem_of_getElem? (i := 15) rfl)) dX0_init_142 ?_
  refine y_astS (j := 15) C hI (by decide) hf dX0_init_144 (fun x38 H locs hI hf => ?_)
  refine lv_dup hx hb dX0_init_145 rfl ?_
  refine lv_iconst (v := 4) hx hb dX0_init_146 (by decide) ?_
  refine va_ldcS (q := (wk w).1 16) hx hb hown (hE.2.1 (80, "slow", 16) (List.mem_of_getElem? (i := 16) rfl)) dX0_init_147 ?_
  refine y_astS (j := 16) C hI (by decide) hf dX0_init_149 (fun x39 H locs hI hf => ?_)
  refine lv_dup hx hb dX0_init_150 rfl ?_
  refine lv_iconst (v := 5) hx hb dX0_init_151 (by decide) ?_
  refine va_ldcS (q := (wk w).1 12) hx hb hown (hE.2.1 (68, "day", 12) (List.mem_of_getElem? (i := 12) rfl)) dX0_init_152 ?_
  refine y_astS (j := 12) C hI (by decide) hf dX0_init_154 (fun x40 H locs hI hf => ?_)
  refine lv_dup hx hb dX0_init_155 rfl ?_
  refine lv_bipush (v := 6) hx hb dX0_init_156 (by decide) ?_
  refine va_ldcS (q := (wk w).1 17) hx hb hown (hE.2.1 (82, "links", 17) (List.mem_of_getElem? (i := 17) rfl)) dX0_init_158 ?_
  refine y_astS (j := 17) C hI (by decide) hf dX0_init_160 (fun x41 H locs hI hf => ?_)
  refine lv_dup hx hb dX0_init_161 rfl ?_
  refine lv_bipush (v := 7) hx hb dX0_init_162 (by decide) ?_
  refine va_ldcS (q := (wk w).1 18) hx hb hown (hE.2.1 (84, "bridged", 18) (List.mem_of_getElem? (i := 18) rfl)) dX0_init_164 ?_
  refine y_astS (j := 18) C hI (by decide) hf dX0_init_166 (fun x42 H locs hI hf => ?_)
  refine lv_dup hx hb dX0_init_167 rfl ?_
  refine lv_bipush (v := 8) hx hb dX0_init_168 (by decide) ?_
  refine va_ldcS (q := (wk w).1 19) hx hb hown (hE.2.1 (86, "lacks", 19) (List.mem_of_getElem? (i := 19) rfl)) dX0_init_170 ?_
  refine y_astS (j := 19) C hI (by decide) hf dX0_init_172 (fun x43 H locs hI hf => ?_)
  refine y_dputF (k := 3) C hI hmn hf rfl in_X0 tyX0 tyX0_ok nmX0 (by decide) q310 rfl rfl rfl (tyX0_ok 3 (by decide)) rfl rfl dX0_init_173 (fun x44 H locs hI hf => ?_)
  refine lv_aload_n hx hb dX0_init_176 rfl (lv_at hl 0 rfl) ?_
  refine lv_iconst (v := 4) hx hb dX0_init_177 (by decide) ?_
  refine y_newR1 (code := 2) C hI hf rfl (by decide) q188 dX0_init_178 (fun q45 x46 H locs hI hf => ?_)
  refine lv_dup hx hb dX0_init_181 rfl ?_
  refine lv_iconst (v := 0) hx hb dX0_init_182 (by decide) ?_
  refine va_ldcS (q := (wk w).1 20) hx hb hown (hE.2.1 (91, "when", 20) (List.mem_of_getElem? (i := 20) rfl)) dX0_init_183 ?_
  refine y_astS (j := 20) C hI (by decide) hf dX0_init_185 (fun x47 H locs hI hf => ?_)
  refine lv_dup hx hb dX0_init_186 rfl ?_
  refine lv_iconst (v := 1) hx hb dX0_init_187 (by decide) ?_
  refine va_ldcS (q := (wk w).1 21) hx hb hown (hE.2.1 (93, "or", 21) (List.mem_of_getElem? (i := 21) rfl)) dX0_init_188 ?_
  refine y_astS (j := 21) C hI (by decide) hf dX0_init_190 (fun x48 H locs hI hf => ?_)
  refine lv_dup hx hb dX0_init_191 rfl ?_
  refine lv_iconst (v := 2) hx hb dX0_init_192 (by decide) ?_
  refine va_ldcS (q := (wk w).1 22) hx hb hown (hE.2.1 (95, "and", 22) (List.mem_of_getElem? (i := 22) rfl)) dX0_init_193 ?_
  refine y_astS (j := 22) C hI (by decide) hf dX0_init_195 (fun x49 H locs hI hf => ?_)
  refine lv_dup hx hb dX0_init_196 rfl ?_
  refine lv_iconst (v := 3) hx hb dX0_init_197 (by decide) ?_
  refine va_ldcS (q := (wk w).1 23) hx hb hown (hE.2.1 (97, "not", 23) (List.mem_of_getElem? (i := 23) rfl)) dX0_init_198 ?_
  refine y_astS (j := 23) C hI (by decide) hf dX0_init_200 (fun x50 H locs hI hf => ?_)
  refine y_dputF (k := 4) C hI hmn hf rfl in_X0 tyX0 tyX0_ok nmX0 (by decide) q311 rfl rfl rfl (tyX0_ok 4 (by decide)) rfl rfl dX0_init_201 (fun x51 H locs hI hf => ?_)
  refine lv_aload_n hx hb dX0_init_204 rfl (lv_at hl 0 rfl) ?_
  refine lv_iconst (v := 0) hx hb dX0_init_205 (by decide) ?_
  refine y_newR1 (code := 2) C hI hf rfl (by decide) q188 dX0_init_206 (fun q52 x53 H locs hI hf => ?_)
  refine y_dputF (k := 5) C hI hmn hf rfl in_X0 tyX0 tyX0_ok nmX0 (by decide) q312 rfl rfl rfl (tyX0_ok 5 (by decide)) rfl rfl dX0_init_209 (fun x54 H locs hI hf => ?_)
  refine lv_aload_n hx hb dX0_init_212 rfl (lv_at hl 0 rfl) ?_
  refine lv_aload_n hx hb dX0_init_213 rfl (lv_at hl 0 rfl) ?_
  refine y_dgetR (k := 5) C hI hf rfl in_X0 (by decide) q312 rfl dX0_init_214 (fun o55 hf => ?_)
  refine t_nn (g := F0 m 217 ls) hf (fun q56 _ hf => ?_)
  refine y_dput (k := 6) C hI hf rfl in_X0 tyX0 tyX0_ok nmX0 (by decide) q313 rfl rfl (tyX0_ok 6 (by decide)) rfl rfl dX0_init_217 (fun x57 H locs hI hf => ?_)
  refine lv_aload_n hx hb dX0_init_220 rfl (lv_at hl 0 rfl) ?_
  refine lv_aload_n hx hb dX0_init_221 rfl (lv_at hl 0 rfl) ?_
  refine y_dgetR (k := 5) C hI hf rfl in_X0 (by decide) q312 rfl dX0_init_222 (fun o58 hf => ?_)
  refine t_nn (g := F0 m 225 ls) hf (fun q59 _ hf => ?_)
  refine y_dput (k := 7) C hI hf rfl in_X0 tyX0 tyX0_ok nmX0 (by decide) q314 rfl rfl (tyX0_ok 7 (by decide)) rfl rfl dX0_init_225 (fun x60 H locs hI hf => ?_)
  refine lv_aload_n hx hb dX0_init_228 rfl (lv_at hl 0 rfl) ?_
  refine lv_aload_n hx hb dX0_init_229 rfl (lv_at hl 0 rfl) ?_
  refine y_dgetR (k := 5) C hI hf rfl in_X0 (by decide) q312 rfl dX0_init_230 (fun o61 hf => ?_)
  refine t_nn (g := F0 m 233 ls) hf (fun q62 _ hf => ?_)
  refine y_dput (k := 8) C hI hf rfl in_X0 tyX0 tyX0_ok nmX0 (by decide) q315 rfl rfl (tyX0_ok 8 (by decide)) rfl rfl dX0_init_233 (fun x63 H locs hI hf => ?_)
  refine lv_aload_n hx hb dX0_init_236 rfl (lv_at hl 0 rfl) ?_
  refine lv_iconst (v := (-1)) hx hb dX0_init_237 (by decide) ?_
  refine y_dput (k := 15) C hI hf rfl in_X0 tyX0 tyX0_ok nmX0 (by decide) q322 rfl rfl (tyX0_ok 15 (by decide)) rfl rfl dX0_init_238 (fun x64 H locs hI hf => ?_)
  refine lv_aload_n hx hb dX0_init_241 rfl (lv_at hl 0 rfl) ?_
  refine y_new C hI hf rfl in_X1 tyX1 tyX1_ok q213 q214 q152 dfX1 dX0_init_242 (fun q65 x66 H locs hI hf => ?_)
  refine lv_dup hx hb dX0_init_245 rfl ?_
  refine y_cINv (rest := [.ref q65, .ref l0]) C hI hf (ymTx_init l N B _ _) rfl q216 (List.mem_of_getElem? (i := 0) rfl) cn_Tx_init ⟨Nat.le_of_ble_eq_true rfl, Nat.le_of_ble_eq_true rfl⟩ rfl hl.1 rfl (Nat.le_of_ble_eq_true rfl) dX0_init_246 (fun x67 H locs hI hf => ?_)
  refine y_dput (k := 16) C hI hf rfl in_X0 tyX0 tyX0_ok nmX0 (by decide) q323 rfl rfl (tyX0_ok 16 (by decide)) rfl rfl dX0_init_249 (fun x68 H locs hI hf => ?_)
  refine lv_aload_n hx hb dX0_init_252 rfl (lv_at hl 0 rfl) ?_
  refine lv_bipush (v := 9) hx hb dX0_init_253 (by decide) ?_
  refine y_newI (atype := .int) (code := 0) (N' := 9) C hI hf rfl (Or.inl rfl) q238 rfl (by decide) rfl (Nat.le_of_ble_eq_true rfl) dX0_init_255 (fun q69 x70 H locs hI hf => ?_)
  refine y_dputF (k := 17) C hI hmn hf rfl in_X0 tyX0 tyX0_ok nmX0 (by decide) q324 rfl rfl rfl (tyX0_ok 17 (by decide)) rfl rfl dX0_init_257 (fun x71 H locs hI hf => ?_)
  refine lv_aload_n hx hb dX0_init_260 rfl (lv_at hl 0 rfl) ?_
  refine lv_iconst (v := 0) hx hb dX0_init_261 (by decide) ?_
  refine y_newR1 (code := 5) C hI hf rfl (by decide) q239 dX0_init_262 (fun q72 x73 H locs hI hf => ?_)
  refine y_dput (k := 18) C hI hf rfl in_X0 tyX0 tyX0_ok nmX0 (by decide) q326 rfl rfl (tyX0_ok 18 (by decide)) rfl rfl dX0_init_265 (fun x74 H locs hI hf => ?_)
  refine lv_aload_n hx hb dX0_init_268 rfl (lv_at hl 0 rfl) ?_
  refine lv_iconst (v := 0) hx hb dX0_init_269 (by decide) ?_
  refine y_newR1 (code := 6) C hI hf rfl (by decide) q241 dX0_init_270 (fun q75 x76 H locs hI hf => ?_)
  refine y_dput (k := 19) C hI hf rfl in_X0 tyX0 tyX0_ok nmX0 (by decide) q328 rfl rfl (tyX0_ok 19 (by decide)) rfl rfl dX0_init_273 (fun x77 H locs hI hf => ?_)
  refine lv_aload_n hx hb dX0_init_276 rfl (lv_at hl 0 rfl) ?_
  refine lv_iconst (v := 0) hx hb dX0_init_277 (by decide) ?_
  refine y_newR1 (code := 7) C hI hf rfl (by decide) q243 dX0_init_278 (fun q78 x79 H locs hI hf => ?_)
  refine y_dput (k := 20) C hI hf rfl in_X0 tyX0 tyX0_ok nmX0 (by decide) q329 rfl rfl (tyX0_ok 20 (by decide)) rfl rfl dX0_init_281 (fun x80 H locs hI hf => ?_)
  refine lv_aload_n hx hb dX0_init_284 rfl (lv_at hl 0 rfl) ?_
  refine y_new C hI hf rfl in_X2 tyX2 tyX2_ok q245 q246 q153 dfX2 dX0_init_285 (fun q81 x82 H locs hI hf => ?_)
  refine lv_dup hx hb dX0_init_288 rfl ?_
  refine lv_aload_n hx hb dX0_init_289 rfl (lv_at hl 0 rfl) ?_
  refine y_cINv (rest := [.ref q81, .ref l0]) C hI hf (ymC_init l N B _ _ _) rfl q248 (List.mem_of_getElem? (i := 1) rfl) cn_C_init ⟨Nat.le_of_ble_eq_true rfl, Nat.le_of_ble_eq_true rfl⟩ rfl hl.1 rfl (Nat.le_of_ble_eq_true rfl) dX0_init_290 (fun x83 H locs hI hf => ?_)
  refine y_dputF (k := 22) C hI hmn hf rfl in_X0 tyX0 tyX0_ok nmX0 (by decide) q332 rfl rfl rfl (tyX0_ok 22 (by decide)) rfl rfl dX0_init_293 (fun x84 H locs hI hf => ?_)
  refine lv_aload_n hx hb dX0_init_296 rfl (lv_at hl 0 rfl) ?_
  refine y_new C hI hf rfl in_X2 tyX2 tyX2_ok q245 q246 q153 dfX2 dX0_init_297 (fun q85 x86 H locs hI hf => ?_)
  refine lv_dup hx hb dX0_init_300 rfl ?_
  refine lv_aload_n hx hb dX0_init_301 rfl (lv_at hl 0 rfl) ?_
  refine y_cINv (rest := [.ref q85, .ref l0]) C hI hf (ymC_init l N B _ _ _) rfl q248 (List.mem_of_getElem? (i := 1) rfl) cn_C_init ⟨Nat.le_of_ble_eq_true rfl, Nat.le_of_ble_eq_true rfl⟩ rfl hl.1 rfl (Nat.le_of_ble_eq_true rfl) dX0_init_302 (fun x87 H locs hI hf => ?_)
  refine y_dputF (k := 23) C hI hmn hf rfl in_X0 tyX0 tyX0_ok nmX0 (by decide) q333 rfl rfl rfl (tyX0_ok 23 (by decide)) rfl rfl dX0_init_305 (fun x88 H locs hI hf => ?_)
  refine lv_aload_n hx hb dX0_init_308 rfl (lv_at hl 0 rfl) ?_
  refine y_new C hI hf rfl in_X2 tyX2 tyX2_ok q245 q246 q153 dfX2 dX0_init_309 (fun q89 x90 H locs hI hf => ?_)
  refine lv_dup hx hb dX0_init_312 rfl ?_
  refine lv_aload_n hx hb dX0_init_313 rfl (lv_at hl 0 rfl) ?_
  refine y_cINv (rest := [.ref q89, .ref l0]) C hI hf (ymC_init l N B _ _ _) rfl q248 (List.mem_of_getElem? (i := 1) rfl) cn_C_init ⟨Nat.le_of_ble_eq_true rfl, Nat.le_of_ble_eq_true rfl⟩ rfl hl.1 rfl (Nat.le_of_ble_eq_true rfl) dX0_init_314 (fun x91 H locs hI hf => ?_)
  refine y_dputF (k := 24) C hI hmn hf rfl in_X0 tyX0 tyX0_ok nmX0 (by decide) q334 rfl rfl rfl (tyX0_ok 24 (by decide)) rfl rfl dX0_init_317 (fun x92 H locs hI hf => ?_)
  refine lv_aload_n hx hb dX0_init_320 rfl (lv_at hl 0 rfl) ?_
  refine lv_sipush (v := 600) hx hb dX0_init_321 (by decide) ?_
  refine y_newI (atype := .int) (code := 0) (N' := 600) C hI hf rfl (Or.inl rfl) q238 rfl (by decide) rfl (Nat.le_of_ble_eq_true rfl) dX0_init_324 (fun q93 x94 H locs hI hf => ?_)
  refine y_dputF (k := 25) C hI hmn hf rfl in_X0 tyX0 tyX0_ok nmX0 (by decide) q335 rfl rfl rfl (tyX0_ok 25 (by decide)) rfl rfl dX0_init_326 (fun x95 H locs hI hf => ?_)
  refine lv_aload_n hx hb dX0_init_329 rfl (lv_at hl 0 rfl) ?_
  refine lv_bipush (v := 6) hx hb dX0_init_330 (by decide) ?_
  refine y_newR1 (code := 8) C hI hf rfl (by decide) q245 dX0_init_332 (fun q96 x97 H locs hI hf => ?_)
  refine y_dputF (k := 26) C hI hmn hf rfl in_X0 tyX0 tyX0_ok nmX0 (by decide) q336 rfl rfl rfl (tyX0_ok 26 (by decide)) rfl rfl dX0_init_335 (fun x98 H locs hI hf => ?_)
  refine lv_aload_n hx hb dX0_init_338 rfl (lv_at hl 0 rfl) ?_
  refine lv_sipush (v := 4096) hx hb dX0_init_339 (by decide) ?_
  refine y_newI (atype := .int) (code := 0) (N' := 4096) C hI hf rfl (Or.inl rfl) q238 rfl (by decide) rfl (Nat.le_of_ble_eq_true rfl) dX0_init_342 (fun q99 x100 H locs hI hf => ?_)
  refine y_dputF (k := 28) C hI hmn hf rfl in_X0 tyX0 tyX0_ok nmX0 (by decide) q338 rfl rfl rfl (tyX0_ok 28 (by decide)) rfl rfl dX0_init_344 (fun x101 H locs hI hf => ?_)
  refine lv_aload_n hx hb dX0_init_347 rfl (lv_at hl 0 rfl) ?_
  refine lv_bipush (v := 12) hx hb dX0_init_348 (by decide) ?_
  refine y_newI (atype := .int) (code := 0) (N' := 12) C hI hf rfl (Or.inl rfl) q238 rfl (by decide) rfl (Nat.le_of_ble_eq_true rfl) dX0_init_350 (fun q102 x103 H locs hI hf => ?_)
  refine y_dputF (k := 29) C hI hmn hf rfl in_X0 tyX0 tyX0_ok nmX0 (by decide) q339 rfl rfl rfl (tyX0_ok 29 (by decide)) rfl rfl dX0_init_352 (fun x104 H locs hI hf => ?_)
  refine lv_aload_n hx hb dX0_init_355 rfl (lv_at hl 0 rfl) ?_
  refine lv_bipush (v := 12) hx hb dX0_init_356 (by decide) ?_
  refine y_newI (atype := .int) (code := 0) (N' := 12) C hI hf rfl (Or.inl rfl) q238 rfl (by decide) rfl (Nat.le_of_ble_eq_true rfl) dX0_init_358 (fun q105 x106 H locs hI hf => ?_)
  refine y_dputF (k := 30) C hI hmn hf rfl in_X0 tyX0 tyX0_ok nmX0 (by decide) q340 rfl rfl rfl (tyX0_ok 30 (by decide)) rfl rfl dX0_init_360 (fun x107 H locs hI hf => ?_)
  refine lv_aload_n hx hb dX0_init_363 rfl (lv_at hl 0 rfl) ?_
  refine lv_sipush (v := 600) hx hb dX0_init_364 (by decide) ?_
  refine y_newI (atype := .int) (code := 0) (N' := 600) C hI hf rfl (Or.inl rfl) q238 rfl (by decide) rfl (Nat.le_of_ble_eq_true rfl) dX0_init_367 (fun q108 x109 H locs hI hf => ?_)
  refine y_dputF (k := 31) C hI hmn hf rfl in_X0 tyX0 tyX0_ok nmX0 (by decide) q341 rfl rfl rfl (tyX0_ok 31 (by decide)) rfl rfl dX0_init_369 (fun x110 H locs hI hf => ?_)
  exact y_vret C hI hf dX0_init_372
/-! TwelveChainModel.<init>()V -/
abbrev frM_init : Nat := 1
abbrev loM_init : Nat := 12
def fM_init (N : Nat) (B : Nat × Nat) (x : TS) (l0 : Nat) : Option TS :=
  b2 (alc B x 1725 (dI 0 1725 (fun _ => 0))) fun q1 x2 =>
  (dpt x2 l0 3 0 (.ref q1)).bind fun x3 =>
  b2 (alc B x3 1725 (dI 0 1725 (fun _ => 0))) fun q4 x5 =>
  (dpt x5 l0 3 1 (.ref q4)).bind fun x6 =>
  b2 (alc B x6 528 (dI 0 528 (fun _ => 0))) fun q7 x8 =>
  (dpt x8 l0 3 2 (.ref q7)).bind fun x9 =>
  b2 (alc B x9 88 (dI 0 88 (fun _ => 0))) fun q10 x11 =>
  (dpt x11 l0 3 3 (.ref q10)).bind fun x12 =>
  b2 (alc B x12 64 (dI 0 64 (fun _ => 0))) fun q13 x14 =>
  (dpt x14 l0 3 6 (.ref q13)).bind fun x15 =>
  b2 (alc B x15 820 (dI 0 820 (fun _ => 0))) fun q16 x17 =>
  (dpt x17 l0 3 7 (.ref q16)).bind fun x18 =>
  b2 (alc B x18 80 (dI 0 80 (fun _ => 0))) fun q19 x20 =>
  (dpt x20 l0 3 8 (.ref q19)).bind fun x21 =>
  b2 (alc B x21 400 (dI 0 400 (fun _ => 0))) fun q22 x23 =>
  (dpt x23 l0 3 9 (.ref q22)).bind fun x24 =>
  b2 (alc B x24 420 (dI 0 420 (fun _ => 0))) fun q25 x26 =>
  (dpt x26 l0 3 10 (.ref q25)).bind fun x27 =>
  b2 (alc B x27 10 (dI 0 10 (fun _ => 0))) fun q28 x29 =>
  (dpt x29 l0 3 11 (.ref q28)).bind fun x30 =>
  (dpt x30 l0 3 25 (.int (-1))).bind fun x31 =>
  b2 (alc B x31 4096 (dI 0 4096 (fun _ => 0))) fun q32 x33 =>
  (dpt x33 l0 3 27 (.ref q32)).bind fun x34 =>
  some x34
theorem ymM_init (l : Launch) (N : Nat) {w : tO} {A : Nat → Prop} (B : Nat × Nat) : ∀ (x : TS) (l0 : Nat) (xr : TS), fM_init N B x l0 = some xr → yMet l yX3_init (ws_ yX3_init cX3_init 1 none) frM_init loM_init [.ref l0] w A B x none xr := by
  intro x l0 xr hf
  refine y_start (cc := cX3_init) (own := RX3) (by decide +kernel) rfl (Nat.le_of_ble_eq_true rfl) rfl ?_
  intro p e s m args below meth c ls H locs C hmn hI hl
  have hx := C.1.1
  have hb := C.1.2.1
  have hown := C.1.2.2.2.1
  have hts := C.1.2.2.2.2.1
  have hE := C.2.2
  rw [fM_init] at hf
  refine lv_aload_n hx hb dX3_init_0 rfl (lv_at hl 0 rfl) ?_
  refine W.objInit hx hb hown (hts _ q1363) (hts _ q183) (hts _ q184) rfl (hl.1.trans C.1.2.2.1.symm) rfl dX3_init_1 (Nat.le_of_ble_eq_true rfl) (Nat.le_of_ble_eq_true rfl) ?_
  refine W.eq (g2 := F0 m 4 ls []) rfl ?_
  refine lv_aload_n hx hb dX3_init_4 rfl (lv_at hl 0 rfl) ?_
  refine lv_sipush (v := 1725) hx hb dX3_init_5 (by decide) ?_
  refine y_newI (atype := .int) (code := 0) (N' := 1725) C hI hf rfl (Or.inl rfl) q238 rfl (by decide) rfl (Nat.le_of_ble_eq_true rfl) dX3_init_8 (fun q1 x2 H locs hI hf => ?_)
  refine y_dputF (k := 0) C hI hmn hf rfl in_X3 tyX3 tyX3_ok nmX3 (by decide) q1364 rfl rfl rfl (tyX3_ok 0 (by decide)) rfl rfl dX3_init_10 (fun x3 H locs hI hf => ?_)
  refine lv_aload_n hx hb dX3_init_13 rfl (lv_at hl 0 rfl) ?_
  refine lv_sipush (v := 1725) hx hb dX3_init_14 (by decide) ?_
  refine y_newI (atype := .int) (code := 0) (N' := 1725) C hI hf rfl (Or.inl rfl) q238 rfl (by decide) rfl (Nat.le_of_ble_eq_true rfl) dX3_init_17 (fun q4 x5 H locs hI hf => ?_)
  refine y_dputF (k := 1) C hI hmn hf rfl in_X3 tyX3 tyX3_ok nmX3 (by decide) q1365 rfl rfl rfl (tyX3_ok 1 (by decide)) rfl rfl dX3_init_19 (fun x6 H locs hI hf => ?_)
  refine lv_aload_n hx hb dX3_init_22 rfl (lv_at hl 0 rfl) ?_
  refine lv_sipush (v := 528) hx hb dX3_init_23 (by decide) ?_
  refine y_newI (atype := .int) (code := 0) (N' := 528) C hI hf rfl (Or.inl rfl) q238 rfl (by decide) rfl (Nat.le_of_ble_eq_true rfl) dX3_init_26 (fun q7 x8 H locs hI hf => ?_)
  refine y_dputF (k := 2) C hI hmn hf rfl in_X3 tyX3 tyX3_ok nmX3 (by decide) q1366 rfl rfl rfl (tyX3_ok 2 (by decide)) rfl rfl dX3_init_28 (fun x9 H locs hI hf => ?_)
  refine lv_aload_n hx hb dX3_init_31 rfl (lv_at hl 0 rfl) ?_
  refine lv_bipush (v := 88) hx hb dX3_init_32 (by decide) ?_
  refine y_newI (atype := .int) (code := 0) (N' := 88) C hI hf rfl (Or.inl rfl) q238 rfl (by decide) rfl (Nat.le_of_ble_eq_true rfl) dX3_init_34 (fun q10 x11 H locs hI hf => ?_)
  refine y_dputF (k := 3) C hI hmn hf rfl in_X3 tyX3 tyX3_ok nmX3 (by decide) q1367 rfl rfl rfl (tyX3_ok 3 (by decide)) rfl rfl dX3_init_36 (fun x12 H locs hI hf => ?_)
  refine lv_aload_n hx hb dX3_init_39 rfl (lv_at hl 0 rfl) ?_
  refine lv_bipush (v := 64) hx hb dX3_init_40 (by decide) ?_
  refine y_newI (atype := .int) (code := 0) (N' := 64) C hI hf rfl (Or.inl rfl) q238 rfl (by decide) rfl (Nat.le_of_ble_eq_true rfl) dX3_init_42 (fun q13 x14 H locs hI hf => ?_)
  refine y_dputF (k := 6) C hI hmn hf rfl in_X3 tyX3 tyX3_ok nmX3 (by decide) q1370 rfl rfl rfl (tyX3_ok 6 (by decide)) rfl rfl dX3_init_44 (fun x15 H locs hI hf => ?_)
  refine lv_aload_n hx hb dX3_init_47 rfl (lv_at hl 0 rfl) ?_
  refine lv_sipush (v := 820) hx hb dX3_init_48 (by decide) ?_
  refine y_newI (atype := .int) (code := 0) (N' := 820) C hI hf rfl (Or.inl rfl) q238 rfl (by decide) rfl (Nat.le_of_ble_eq_true rfl) dX3_init_51 (fun q16 x17 H locs hI hf => ?_)
  refine y_dputF (k := 7) C hI hmn hf rfl in_X3 tyX3 tyX3_ok nmX3 (by decide) q1371 rfl rfl rfl (tyX3_ok 7 (by decide)) rfl rfl dX3_init_53 (fun x18 H locs hI hf => ?_)
  refine lv_aload_n hx hb dX3_init_56 rfl (lv_at hl 0 rfl) ?_
  refine lv_bipush (v := 80) hx hb dX3_init_57 (by decide) ?_
  refine y_newI (atype := .int) (code := 0) (N' := 80) C hI hf rfl (Or.inl rfl) q238 rfl (by decide) rfl (Nat.le_of_ble_eq_true rfl) dX3_init_59 (fun q19 x20 H locs hI hf => ?_)
  refine y_dputF (k := 8) C hI hmn hf rfl in_X3 tyX3 tyX3_ok nmX3 (by decide) q1372 rfl rfl rfl (tyX3_ok 8 (by decide)) rfl rfl dX3_init_61 (fun x21 H locs hI hf => ?_)
  refine lv_aload_n hx hb dX3_init_64 rfl (lv_at hl 0 rfl) ?_
  refine lv_sipush (v := 400) hx hb dX3_init_65 (by decide) ?_
  refine y_newI (atype := .int) (code := 0) (N' := 400) C hI hf rfl (Or.inl rfl) q238 rfl (by decide) rfl (Nat.le_of_ble_eq_true rfl) dX3_init_68 (fun q22 x23 H locs hI hf => ?_)
  refine y_dputF (k := 9) C hI hmn hf rfl in_X3 tyX3 tyX3_ok nmX3 (by decide) q1373 rfl rfl rfl (tyX3_ok 9 (by decide)) rfl rfl dX3_init_70 (fun x24 H locs hI hf => ?_)
  refine lv_aload_n hx hb dX3_init_73 rfl (lv_at hl 0 rfl) ?_
  refine lv_sipush (v := 420) hx hb dX3_init_74 (by decide) ?_
  refine y_newI (atype := .int) (code := 0) (N' := 420) C hI hf rfl (Or.inl rfl) q238 rfl (by decide) rfl (Nat.le_of_ble_eq_true rfl) dX3_init_77 (fun q25 x26 H locs hI hf => ?_)
  refine y_dputF (k := 10) C hI hmn hf rfl in_X3 tyX3 tyX3_ok nmX3 (by decide) q1374 rfl rfl rfl (tyX3_ok 10 (by decide)) rfl rfl dX3_init_79 (fun x27 H locs hI hf => ?_)
  refine lv_aload_n hx hb dX3_init_82 rfl (lv_at hl 0 rfl) ?_
  refine lv_bipush (v := 10) hx hb dX3_init_83 (by decide) ?_
  refine y_newI (atype := .int) (code := 0) (N' := 10) C hI hf rfl (Or.inl rfl) q238 rfl (by decide) rfl (Nat.le_of_ble_eq_true rfl) dX3_init_85 (fun q28 x29 H locs hI hf => ?_)
  refine y_dputF (k := 11) C hI hmn hf rfl in_X3 tyX3 tyX3_ok nmX3 (by decide) q1375 rfl rfl rfl (tyX3_ok 11 (by decide)) rfl rfl dX3_init_87 (fun x30 H locs hI hf => ?_)
  refine lv_aload_n hx hb dX3_init_90 rfl (lv_at hl 0 rfl) ?_
  refine lv_iconst (v := (-1)) hx hb dX3_init_91 (by decide) ?_
  refine y_dput (k := 25) C hI hf rfl in_X3 tyX3 tyX3_ok nmX3 (by decide) q1389 rfl rfl (tyX3_ok 25 (by decide)) rfl rfl dX3_init_92 (fun x31 H locs hI hf => ?_)
  refine lv_aload_n hx hb dX3_init_95 rfl (lv_at hl 0 rfl) ?_
  refine lv_sipush (v := 4096) hx hb dX3_init_96 (by decide) ?_
  refine y_newI (atype := .int) (code := 0) (N' := 4096) C hI hf rfl (Or.inl rfl) q238 rfl (by decide) rfl (Nat.le_of_ble_eq_true rfl) dX3_init_99 (fun q32 x33 H locs hI hf => ?_)
  refine y_dputF (k := 27) C hI hmn hf rfl in_X3 tyX3 tyX3_ok nmX3 (by decide) q1391 rfl rfl rfl (tyX3_ok 27 (by decide)) rfl rfl dX3_init_101 (fun x34 H locs hI hf => ?_)
  exact y_vret C hI hf dX3_init_104
