set_option maxRecDepth 100000
variable {p : Program} {l : Launch} {e : Env} {R : Room} {s : State} {m : MethodId} {args : Array Value} {below : List Frame} {meth : Method} {c : Code} {H : Heap} {locs : List Loc} {Q : State → Prop}
variable {w : tO} {A : Nat → Prop}
/-! TwelveChain$Chain.asks(I)V -/
abbrev frC_asks : Nat := 4
abbrev loC_asks : Nat := 90
def fC_asks (N : Nat) (B : Nat × Nat) (x : TS) (l0 : cIx) (l1 : Int32) : Option TS :=
  (wrT x 17 0 l1).bind fun x1 =>
  (rd 12 (tC x1 l0 0) l1).bind fun v2 =>
  (wrT x1 17 1 v2).bind fun x3 =>
  (rd 12 (tC x3 l0 1) l1).bind fun v4 =>
  (wrT x3 17 2 v4).bind fun x5 =>
  (rd 12 (tC x5 l0 2) l1).bind fun v6 =>
  (wrT x5 17 3 v6).bind fun x7 =>
  (rd 12 (tC x7 l0 3) l1).bind fun v8 =>
  (wrT x7 17 4 v8).bind fun x9 =>
  (wrT x9 17 5 (tF x9 l0 8)).bind fun x10 =>
  (wrT x10 17 6 (tS x10 21)).bind fun x11 =>
  (fT_has N (tF x11 l0 7) l1).bind fun v12 =>
  lt (if v12 = 0 then 0 else 1 : Int32) fun v13 =>
  (wrT x11 17 7 v13).bind fun x14 =>
  b2 (fC_lacksOf N B x14 l0 l1) fun v16 x15 =>
  (wrT x15 17 8 v16).bind fun x17 =>
  some x17
theorem tmC_asks (l : Launch) (N : Nat) {w : tO} {A : Nat → Prop} (B : Nat × Nat) {l0 : Nat} (hi_l0 : l0 < wn w) : ∀ (x : TS) (l1 : Int32) (xr : TS), fC_asks N B x l0 l1 = some xr → tMet l yX2_asks (ws_ yX2_asks cX2_asks 2 none) frC_asks loC_asks [.ref (wG w l0 5), .int l1] w A B x none xr := by
  intro x l1 xr hf
  refine t_start (cc := cX2_asks) (own := RX2) (by decide +kernel) rfl (Nat.le_of_ble_eq_true rfl) rfl ?_
  intro p e s m args below meth c ls H locs C hmn hI hl
  have hx := C.1.1
  have hb := C.1.2.1
  have hown := C.1.2.2.2.1
  have hts := C.1.2.2.2.2.1
  have hE := C.2.2
  rw [fC_asks] at hf
  refine lv_aload_n hx hb dX2_asks_0 rfl (lv_at hl 0 rfl) ?_
  refine tgX2_3 C hI hi_l0 dX2_asks_1 ?_
  refine tgN_99 C hI dX2_asks_4 ?_
  refine lv_iconst (v := 0) hx hb dX2_asks_7 (by decide) ?_
  refine lv_iload_n hx hb dX2_asks_8 rfl (lv_at hl 1 rfl) ?_
  refine ts17 C hI hf dX2_asks_9 (fun x1 H locs hI hf => ?_)
  refine lv_aload_n hx hb dX2_asks_10 rfl (lv_at hl 0 rfl) ?_
  refine tgX2_3 C hI hi_l0 dX2_asks_11 ?_
  refine tgN_99 C hI dX2_asks_14 ?_
  refine lv_iconst (v := 1) hx hb dX2_asks_17 (by decide) ?_
  refine lv_aload_n hx hb dX2_asks_18 rfl (lv_at hl 0 rfl) ?_
  refine tgX2_15 C hI hi_l0 dX2_asks_19 ?_
  refine lv_iload_n hx hb dX2_asks_22 rfl (lv_at hl 1 rfl) ?_
  refine t_cald C hI hi_l0 (by decide) hf dX2_asks_23 (fun v2 hf => ?_)
  refine ts17 C hI hf dX2_asks_24 (fun x3 H locs hI hf => ?_)
  refine lv_aload_n hx hb dX2_asks_25 rfl (lv_at hl 0 rfl) ?_
  refine tgX2_3 C hI hi_l0 dX2_asks_26 ?_
  refine tgN_99 C hI dX2_asks_29 ?_
  refine lv_iconst (v := 2) hx hb dX2_asks_32 (by decide) ?_
  refine lv_aload_n hx hb dX2_asks_33 rfl (lv_at hl 0 rfl) ?_
  refine tgX2_19 C hI hi_l0 dX2_asks_34 ?_
  refine lv_iload_n hx hb dX2_asks_37 rfl (lv_at hl 1 rfl) ?_
  refine t_cald C hI hi_l0 (by decide) hf dX2_asks_38 (fun v4 hf => ?_)
  refine ts17 C hI hf dX2_asks_39 (fun x5 H locs hI hf => ?_)
  refine lv_aload_n hx hb dX2_asks_40 rfl (lv_at hl 0 rfl) ?_
  refine tgX2_3 C hI hi_l0 dX2_asks_41 ?_
  refine tgN_99 C hI dX2_asks_44 ?_
  refine lv_iconst (v := 3) hx hb dX2_asks_47 (by decide) ?_
  refine lv_aload_n hx hb dX2_asks_48 rfl (lv_at hl 0 rfl) ?_
  refine tgX2_22 C hI hi_l0 dX2_asks_49 ?_
  refine lv_iload_n hx hb dX2_asks_52 rfl (lv_at hl 1 rfl) ?_
  refine t_cald C hI hi_l0 (by decide) hf dX2_asks_53 (fun v6 hf => ?_)
  refine ts17 C hI hf dX2_asks_54 (fun x7 H locs hI hf => ?_)
  refine lv_aload_n hx hb dX2_asks_55 rfl (lv_at hl 0 rfl) ?_
  refine tgX2_3 C hI hi_l0 dX2_asks_56 ?_
  refine tgN_99 C hI dX2_asks_59 ?_
  refine lv_iconst (v := 4) hx hb dX2_asks_62 (by decide) ?_
  refine lv_aload_n hx hb dX2_asks_63 rfl (lv_at hl 0 rfl) ?_
  refine tgX2_25 C hI hi_l0 dX2_asks_64 ?_
  refine lv_iload_n hx hb dX2_asks_67 rfl (lv_at hl 1 rfl) ?_
  refine t_cald C hI hi_l0 (by decide) hf dX2_asks_68 (fun v8 hf => ?_)
  refine ts17 C hI hf dX2_asks_69 (fun x9 H locs hI hf => ?_)
  refine lv_aload_n hx hb dX2_asks_70 rfl (lv_at hl 0 rfl) ?_
  refine tgX2_3 C hI hi_l0 dX2_asks_71 ?_
  refine tgN_99 C hI dX2_asks_74 ?_
  refine lv_iconst (v := 5) hx hb dX2_asks_77 (by decide) ?_
  refine lv_aload_n hx hb dX2_asks_78 rfl (lv_at hl 0 rfl) ?_
  refine tgX2_45 C hI hi_l0 dX2_asks_79 ?_
  refine ts17 C hI hf dX2_asks_82 (fun x10 H locs hI hf => ?_)
  refine lv_aload_n hx hb dX2_asks_83 rfl (lv_at hl 0 rfl) ?_
  refine tgX2_3 C hI hi_l0 dX2_asks_84 ?_
  refine tgN_99 C hI dX2_asks_87 ?_
  refine lv_bipush (v := 6) hx hb dX2_asks_90 (by decide) ?_
  refine lv_aload_n hx hb dX2_asks_92 rfl (lv_at hl 0 rfl) ?_
  refine tgX2_3 C hI hi_l0 dX2_asks_93 ?_
  refine tgN_75 C hI dX2_asks_96 ?_
  refine ts17 C hI hf dX2_asks_99 (fun x11 H locs hI hf => ?_)
  refine lv_aload_n hx hb dX2_asks_100 rfl (lv_at hl 0 rfl) ?_
  refine tgX2_3 C hI hi_l0 dX2_asks_101 ?_
  refine tgN_99 C hI dX2_asks_104 ?_
  refine lv_bipush (v := 7) hx hb dX2_asks_107 (by decide) ?_
  refine lv_aload_n hx hb dX2_asks_109 rfl (lv_at hl 0 rfl) ?_
  refine tgX2_42 C hI hi_l0 dX2_asks_110 ?_
  refine lv_iload_n hx hb dX2_asks_113 rfl (lv_at hl 1 rfl) ?_
  refine g_calliSN (rest := [.int 7, .ref (wa w 17)]) C hf (smT_has l N _ _) cn_T_has q888 (List.mem_of_getElem? (i := 6) rfl) ⟨rfl, rfl⟩ ⟨Nat.le_of_ble_eq_true rfl, Nat.le_of_ble_eq_true rfl⟩ rfl hl.1 rfl (Nat.le_of_ble_eq_true rfl) (t_room hI) dX2_asks_114 (fun v12 hf => ?_)
  suffices hJ : ∀ v13 : Int32, (v13 = (if v12 = 0 then 0 else 1 : Int32)) → W p l e (tRm B frC_asks loC_asks s.heap.size (SL s.heap)) s m args below meth c H locs (tZ x11 - s.heap.size) (tY x11 - SL s.heap) (MQ below (tQ w A B none xr) args s (B.1 - s.heap.size) (B.2 - SL s.heap) A) (F0 m 125 ls [.int v13, .int 7, .ref (wa w 17)]) by
    refine lv_if_eq (tgt := 124) hx hb dX2_asks_117 (by decide) (fun hc => ?_) (fun hc => ?_)
    · refine lv_iconst (v := 0) hx hb dX2_asks_124 (by decide) ?_
      exact hJ _ (if_pos hc).symm
    · refine lv_iconst (v := 1) hx hb dX2_asks_120 (by decide) ?_
      refine lv_goto (tgt := 125) hx hb dX2_asks_121 (by decide) ?_
      exact hJ _ (if_neg hc).symm
  intro v13 hv
  have hf := lt_of hv hf
  refine ts17 C hI hf dX2_asks_125 (fun x14 H locs hI hf => ?_)
  refine lv_aload_n hx hb dX2_asks_126 rfl (lv_at hl 0 rfl) ?_
  refine tgX2_3 C hI hi_l0 dX2_asks_127 ?_
  refine tgN_99 C hI dX2_asks_130 ?_
  refine lv_bipush (v := 8) hx hb dX2_asks_133 (by decide) ?_
  refine lv_aload_n hx hb dX2_asks_135 rfl (lv_at hl 0 rfl) ?_
  refine lv_iload_n hx hb dX2_asks_136 rfl (lv_at hl 1 rfl) ?_
  refine t_cVi (rest := [.int 8, .ref (wa w 17)]) C hI hf (tmC_lacksOf l N B hi_l0 _ _) (rv_chain C hI hi_l0) cqX2_C_lacksOf ⟨Nat.le_of_ble_eq_true rfl, Nat.le_of_ble_eq_true rfl⟩ rfl hl.1 rfl (Nat.le_of_ble_eq_true rfl) dX2_asks_137 (fun v16 x15 H locs hI hf => ?_)
  refine ts17 C hI hf dX2_asks_140 (fun x17 H locs hI hf => ?_)
  exact t_vret C hI hf dX2_asks_141
/-! TwelveChain.writes(III)V -/
abbrev frT_writes : Nat := 0
abbrev loT_writes : Nat := 0
def fT_writes (N : Nat) (B : Nat × Nat) (x : TS) (l1 : Int32) (l2 : Int32) (l3 : Int32) : Option TS :=
  if (tF x 0 11) = 150 then
    some x
  else
    (wrT x 25 (4 * (tF x 0 11)) (tF x 0 8)).bind fun x1 =>
    (wrT x1 25 ((4 * (tF x 0 11)) + 1) l1).bind fun x2 =>
    (wrT x2 25 ((4 * (tF x 0 11)) + 2) l2).bind fun x3 =>
    (wrT x3 25 ((4 * (tF x 0 11)) + 3) l3).bind fun x4 =>
    some (sTF x4 0 11 ((tF x4 0 11) + 1))
theorem tmT_writes (l : Launch) (N : Nat) {w : tO} {A : Nat → Prop} (B : Nat × Nat) : ∀ (x : TS) (l1 : Int32) (l2 : Int32) (l3 : Int32) (xr : TS), fT_writes N B x l1 l2 l3 = some xr → tMet l yX0_writes (ws_ yX0_writes cX0_writes 5 none) frT_writes loT_writes [.ref (wa w 37), .int l1, .int l2, .int l3] w A B x none xr := by
  intro x l1 l2 l3 xr hf
  refine t_start (cc := cX0_writes) (own := RX0) (by decide +kernel) rfl (Nat.le_of_ble_eq_true rfl) rfl ?_
  intro p e s m args below meth c ls H locs C hmn hI hl
  have hx := C.1.1
  have hb := C.1.2.1
  have hown := C.1.2.2.2.1
  have hts := C.1.2.2.2.2.1
  have hE := C.2.2
  rw [fT_writes] at hf
  refine lv_aload_n hx hb dX0_writes_0 rfl (lv_at hl 0 rfl) ?_
  refine tgX0_152 C hI dX0_writes_1 ?_
  refine tgX0_392 C hI (tI.l3 hI (by decide)) dX0_writes_4 ?_
  refine lv_sipush (v := 150) hx hb dX0_writes_7 (by decide) ?_
  refine b_icne (tgt := 14) hx hb hf dX0_writes_10 (by decide) (fun hf => ?_) (fun hf => ?_)
  · refine lv_iconst (v := 4) hx hb dX0_writes_14 (by decide) ?_
    refine lv_aload_n hx hb dX0_writes_15 rfl (lv_at hl 0 rfl) ?_
    refine tgX0_152 C hI dX0_writes_16 ?_
    refine tgX0_392 C hI (tI.l3 hI (by decide)) dX0_writes_19 ?_
    refine lv_imul hx hb dX0_writes_22 ?_
    refine lv_istore (lv' := [(4, .int (4 * (tF x 0 11))), (0, .ref (wa w 37)), (1, .int l1), (2, .int l2), (3, .int l3)]) hx hb dX0_writes_23 hl (by decide) rfl (fun ls hl => ?_)
    refine lv_aload_n hx hb dX0_writes_25 rfl (lv_at hl 1 rfl) ?_
    refine tgX0_162 C hI dX0_writes_26 ?_
    refine lv_iload hx hb dX0_writes_29 (lv_at hl 0 rfl) ?_
    refine lv_aload_n hx hb dX0_writes_31 rfl (lv_at hl 1 rfl) ?_
    refine tgX0_152 C hI dX0_writes_32 ?_
    refine tgX0_395 C hI (tI.l3 hI (by decide)) dX0_writes_35 ?_
    refine ts25 C hI hf dX0_writes_38 (fun x1 H locs hI hf => ?_)
    refine lv_aload_n hx hb dX0_writes_39 rfl (lv_at hl 1 rfl) ?_
    refine tgX0_162 C hI dX0_writes_40 ?_
    refine lv_iload hx hb dX0_writes_43 (lv_at hl 0 rfl) ?_
    refine lv_iconst (v := 1) hx hb dX0_writes_45 (by decide) ?_
    refine lv_iadd hx hb dX0_writes_46 ?_
    refine lv_iload_n hx hb dX0_writes_47 rfl (lv_at hl 2 rfl) ?_
    refine ts25 C hI hf dX0_writes_48 (fun x2 H locs hI hf => ?_)
    refine lv_aload_n hx hb dX0_writes_49 rfl (lv_at hl 1 rfl) ?_
    refine tgX0_162 C hI dX0_writes_50 ?_
    refine lv_iload hx hb dX0_writes_53 (lv_at hl 0 rfl) ?_
    refine lv_iconst (v := 2) hx hb dX0_writes_55 (by decide) ?_
    refine lv_iadd hx hb dX0_writes_56 ?_
    refine lv_iload_n hx hb dX0_writes_57 rfl (lv_at hl 3 rfl) ?_
    refine ts25 C hI hf dX0_writes_58 (fun x3 H locs hI hf => ?_)
    refine lv_aload_n hx hb dX0_writes_59 rfl (lv_at hl 1 rfl) ?_
    refine tgX0_162 C hI dX0_writes_60 ?_
    refine lv_iload hx hb dX0_writes_63 (lv_at hl 0 rfl) ?_
    refine lv_iconst (v := 3) hx hb dX0_writes_65 (by decide) ?_
    refine lv_iadd hx hb dX0_writes_66 ?_
    refine lv_iload_n hx hb dX0_writes_67 rfl (lv_at hl 4 rfl) ?_
    refine ts25 C hI hf dX0_writes_68 (fun x4 H locs hI hf => ?_)
    refine lv_aload_n hx hb dX0_writes_69 rfl (lv_at hl 1 rfl) ?_
    refine tgX0_152 C hI dX0_writes_70 ?_
    refine lv_dup hx hb dX0_writes_73 rfl ?_
    refine tgX0_392 C hI (tI.l3 hI (by decide)) dX0_writes_74 ?_
    refine lv_iconst (v := 1) hx hb dX0_writes_77 (by decide) ?_
    refine lv_iadd hx hb dX0_writes_78 ?_
    refine tpX0_392 C hI (tI.l3 hI (by decide)) dX0_writes_79 (fun H locs hI => ?_)
    exact t_vret C hI hf dX0_writes_82
  · exact t_vret C hI hf dX0_writes_13
/-! TwelveChain$Chain.notes(III)V -/
abbrev frC_notes : Nat := 1
abbrev loC_notes : Nat := 24
def fC_notes (N : Nat) (B : Nat × Nat) (x : TS) (l0 : cIx) (l1 : Int32) (l2 : Int32) (l3 : Int32) : Option TS :=
  if (tF x l0 12) = 0 then
    (fT_writes N B x l1 l2 l3).bind fun x1 =>
    some x1
  else
    some x
theorem tmC_notes (l : Launch) (N : Nat) {w : tO} {A : Nat → Prop} (B : Nat × Nat) {l0 : Nat} (hi_l0 : l0 < wn w) : ∀ (x : TS) (l1 : Int32) (l2 : Int32) (l3 : Int32) (xr : TS), fC_notes N B x l0 l1 l2 l3 = some xr → tMet l yX2_notes (ws_ yX2_notes cX2_notes 4 none) frC_notes loC_notes [.ref (wG w l0 5), .int l1, .int l2, .int l3] w A B x none xr := by
  intro x l1 l2 l3 xr hf
  refine t_start (cc := cX2_notes) (own := RX2) (by decide +kernel) rfl (Nat.le_of_ble_eq_true rfl) rfl ?_
  intro p e s m args below meth c ls H locs C hmn hI hl
  have hx := C.1.1
  have hb := C.1.2.1
  have hown := C.1.2.2.2.1
  have hts := C.1.2.2.2.2.1
  have hE := C.2.2
  rw [fC_notes] at hf
  refine lv_aload_n hx hb dX2_notes_0 rfl (lv_at hl 0 rfl) ?_
  refine tgX2_61 C hI hi_l0 dX2_notes_1 ?_
  refine b_ifne (tgt := 17) hx hb hf dX2_notes_4 (by decide) (fun hf => ?_) (fun hf => ?_)
  · exact t_vret C hI hf dX2_notes_17
  · refine lv_aload_n hx hb dX2_notes_7 rfl (lv_at hl 0 rfl) ?_
    refine tgX2_3 C hI hi_l0 dX2_notes_8 ?_
    refine lv_iload_n hx hb dX2_notes_11 rfl (lv_at hl 1 rfl) ?_
    refine lv_iload_n hx hb dX2_notes_12 rfl (lv_at hl 2 rfl) ?_
    refine lv_iload_n hx hb dX2_notes_13 rfl (lv_at hl 3 rfl) ?_
    refine t_cVNv (rest := []) C hI hf (tmT_writes l N B _ _ _ _) (rv_main C hI) cn_T_writes ⟨q964, qs33⟩ (List.mem_of_getElem? (i := 8) rfl) ⟨Nat.le_of_ble_eq_true rfl, Nat.le_of_ble_eq_true rfl⟩ rfl hl.1 rfl (Nat.le_of_ble_eq_true rfl) dX2_notes_14 (fun x1 H locs hI hf => ?_)
    exact t_vret C hI hf dX2_notes_17
/-! TwelveChain$Chain.bridges(I)V -/
abbrev frC_bridges : Nat := 2
abbrev loC_bridges : Nat := 47
def fC_bridges (N : Nat) (B : Nat × Nat) (x : TS) (l0 : cIx) (l1 : Int32) : Option TS :=
  (fC_notes N B (sTF x l0 7 ((tF x l0 7) ||| (1 <<< (l1 &&& 31)))) l0 1 l1 0).bind fun x1 =>
  some x1
theorem tmC_bridges (l : Launch) (N : Nat) {w : tO} {A : Nat → Prop} (B : Nat × Nat) {l0 : Nat} (hi_l0 : l0 < wn w) : ∀ (x : TS) (l1 : Int32) (xr : TS), fC_bridges N B x l0 l1 = some xr → tMet l yX2_bridges (ws_ yX2_bridges cX2_bridges 2 none) frC_bridges loC_bridges [.ref (wG w l0 5), .int l1] w A B x none xr := by
  intro x l1 xr hf
  refine t_start (cc := cX2_bridges) (own := RX2) (by decide +kernel) rfl (Nat.le_of_ble_eq_true rfl) rfl ?_
  intro p e s m args below meth c ls H locs C hmn hI hl
  have hx := C.1.1
  have hb := C.1.2.1
  have hown := C.1.2.2.2.1
  have hts := C.1.2.2.2.2.1
  have hE := C.2.2
  rw [fC_bridges] at hf
  refine lv_aload_n hx hb dX2_bridges_0 rfl (lv_at hl 0 rfl) ?_
  refine lv_dup hx hb dX2_bridges_1 rfl ?_
  refine tgX2_42 C hI hi_l0 dX2_bridges_2 ?_
  refine lv_iconst (v := 1) hx hb dX2_bridges_5 (by decide) ?_
  refine lv_iload_n hx hb dX2_bridges_6 rfl (lv_at hl 1 rfl) ?_
  refine lv_ishl hx hb dX2_bridges_7 ?_
  refine lv_ior hx hb dX2_bridges_8 ?_
  refine tpX2_42 C hI hi_l0 dX2_bridges_9 (fun H locs hI => ?_)
  refine lv_aload_n hx hb dX2_bridges_12 rfl (lv_at hl 0 rfl) ?_
  refine lv_iconst (v := 1) hx hb dX2_bridges_13 (by decide) ?_
  refine lv_iload_n hx hb dX2_bridges_14 rfl (lv_at hl 1 rfl) ?_
  refine lv_iconst (v := 0) hx hb dX2_bridges_15 (by decide) ?_
  refine t_cVv (rest := []) C hI hf (tmC_notes l N B hi_l0 _ _ _ _) (rv_chain C hI hi_l0) cqX2_C_notes ⟨Nat.le_of_ble_eq_true rfl, Nat.le_of_ble_eq_true rfl⟩ rfl hl.1 rfl (Nat.le_of_ble_eq_true rfl) dX2_bridges_16 (fun x1 H locs hI hf => ?_)
  exact t_vret C hI hf dX2_bridges_19
/-! TwelveChain$Chain.canBridge(I)Z -/
abbrev frC_canBridge : Nat := 2
abbrev loC_canBridge : Nat := 42
def fC_canBridge (N : Nat) (B : Nat × Nat) (x : TS) (l0 : cIx) (l1 : Int32) : Option (Int32 × TS) :=
  if l1 ≤ 0 then
    some (0, x)
  else
    if ((tS x 21) - 1) ≤ l1 then
      some (0, x)
    else
      (fT_has N (tF x l0 7) l1).bind fun v1 =>
      if v1 = 0 then
        b2 (fC_isThere N B x l0 l1) fun v3 x2 =>
        if v3 = 0 then
          some (0, x2)
        else
          some (1, x2)
      else
        some (0, x)
theorem tmC_canBridge (l : Launch) (N : Nat) {w : tO} {A : Nat → Prop} (B : Nat × Nat) {l0 : Nat} (hi_l0 : l0 < wn w) : ∀ (x : TS) (l1 : Int32) (r : Int32) (xr : TS), fC_canBridge N B x l0 l1 = some (r, xr) → tMet l yX2_canBridge (ws_ yX2_canBridge cX2_canBridge 2 (some .boolean)) frC_canBridge loC_canBridge [.ref (wG w l0 5), .int l1] w A B x (some (.int r)) xr := by
  intro x l1 r xr hf
  refine t_start (cc := cX2_canBridge) (own := RX2) (by decide +kernel) rfl (Nat.le_of_ble_eq_true rfl) rfl ?_
  intro p e s m args below meth c ls H locs C hmn hI hl
  have hx := C.1.1
  have hb := C.1.2.1
  have hown := C.1.2.2.2.1
  have hts := C.1.2.2.2.2.1
  have hE := C.2.2
  rw [fC_canBridge] at hf
  refine lv_iload_n hx hb dX2_canBridge_0 rfl (lv_at hl 1 rfl) ?_
  refine b_ifle (tgt := 40) hx hb hf dX2_canBridge_1 (by decide) (fun hf => ?_) (fun hf => ?_)
  · refine lv_iconst (v := 0) hx hb dX2_canBridge_40 (by decide) ?_
    exact t_zretc C hI zb_0 hf dX2_canBridge_41
  · refine lv_iload_n hx hb dX2_canBridge_4 rfl (lv_at hl 1 rfl) ?_
    refine lv_aload_n hx hb dX2_canBridge_5 rfl (lv_at hl 0 rfl) ?_
    refine tgX2_3 C hI hi_l0 dX2_canBridge_6 ?_
    refine tgN_75 C hI dX2_canBridge_9 ?_
    refine lv_iconst (v := 1) hx hb dX2_canBridge_12 (by decide) ?_
    refine lv_isub hx hb dX2_canBridge_13 ?_
    refine b_icge (tgt := 40) hx hb hf dX2_canBridge_14 (by decide) (fun hf => ?_) (fun hf => ?_)
    · refine lv_iconst (v := 0) hx hb dX2_canBridge_40 (by decide) ?_
      exact t_zretc C hI zb_0 hf dX2_canBridge_41
    · refine lv_aload_n hx hb dX2_canBridge_17 rfl (lv_at hl 0 rfl) ?_
      refine tgX2_42 C hI hi_l0 dX2_canBridge_18 ?_
      refine lv_iload_n hx hb dX2_canBridge_21 rfl (lv_at hl 1 rfl) ?_
      refine g_calliSN (rest := []) C hf (smT_has l N _ _) cn_T_has q888 (List.mem_of_getElem? (i := 6) rfl) ⟨rfl, rfl⟩ ⟨Nat.le_of_ble_eq_true rfl, Nat.le_of_ble_eq_true rfl⟩ rfl hl.1 rfl (Nat.le_of_ble_eq_true rfl) (t_room hI) dX2_canBridge_22 (fun v1 hf => ?_)
      refine b_ifne (tgt := 40) hx hb hf dX2_canBridge_25 (by decide) (fun hf => ?_) (fun hf => ?_)
      · refine lv_iconst (v := 0) hx hb dX2_canBridge_40 (by decide) ?_
        exact t_zretc C hI zb_0 hf dX2_canBridge_41
      · refine lv_aload_n hx hb dX2_canBridge_28 rfl (lv_at hl 0 rfl) ?_
        refine lv_iload_n hx hb dX2_canBridge_29 rfl (lv_at hl 1 rfl) ?_
        refine t_cVi (rest := []) C hI hf (tmC_isThere l N B hi_l0 _ _) (rv_chain C hI hi_l0) cqX2_C_isThere ⟨Nat.le_of_ble_eq_true rfl, Nat.le_of_ble_eq_true rfl⟩ rfl hl.1 rfl (Nat.le_of_ble_eq_true rfl) dX2_canBridge_30 (fun v3 x2 H locs hI hf => ?_)
        refine b_ifeq (tgt := 40) hx hb hf dX2_canBridge_33 (by decide) (fun hf => ?_) (fun hf => ?_)
        · refine lv_iconst (v := 0) hx hb dX2_canBridge_40 (by decide) ?_
          exact t_zretc C hI zb_0 hf dX2_canBridge_41
        · refine lv_iconst (v := 1) hx hb dX2_canBridge_36 (by decide) ?_
          refine lv_goto (tgt := 41) hx hb dX2_canBridge_37 (by decide) ?_
          exact t_zretc C hI zb_1 hf dX2_canBridge_41
/-! TwelveChain$Chain.canPayTo(III)Z -/
abbrev frC_canPayTo : Nat := 0
abbrev loC_canPayTo : Nat := 0
def fC_canPayTo (N : Nat) (B : Nat × Nat) (x : TS) (l0 : cIx) (l1 : Int32) (l2 : Int32) (l3 : Int32) : Option (Int32 × TS) :=
  (rd 12 (tC x l0 1) l1).bind fun v1 =>
  if (v1 - l3) < (-9999) then
    some (0, x)
  else
    (rd 12 (tC x l0 1) l2).bind fun v2 =>
    if 9999 < (v2 + l3) then
      some (0, x)
    else
      some (1, x)
theorem tmC_canPayTo (l : Launch) (N : Nat) {w : tO} {A : Nat → Prop} (B : Nat × Nat) {l0 : Nat} (hi_l0 : l0 < wn w) : ∀ (x : TS) (l1 : Int32) (l2 : Int32) (l3 : Int32) (r : Int32) (xr : TS), fC_canPayTo N B x l0 l1 l2 l3 = some (r, xr) → tMet l yX2_canPayTo (ws_ yX2_canPayTo cX2_canPayTo 4 (some .boolean)) frC_canPayTo loC_canPayTo [.ref (wG w l0 5), .int l1, .int l2, .int l3] w A B x (some (.int r)) xr := by
  intro x l1 l2 l3 r xr hf
  refine t_start (cc := cX2_canPayTo) (own := RX2) (by decide +kernel) rfl (Nat.le_of_ble_eq_true rfl) rfl ?_
  intro p e s m args below meth c ls H locs C hmn hI hl
  have hx := C.1.1
  have hb := C.1.2.1
  have hown := C.1.2.2.2.1
  have hts := C.1.2.2.2.2.1
  have hE := C.2.2
  rw [fC_canPayTo] at hf
  refine lv_aload_n hx hb dX2_canPayTo_0 rfl (lv_at hl 0 rfl) ?_
  refine tgX2_19 C hI hi_l0 dX2_canPayTo_1 ?_
  refine lv_iload_n hx hb dX2_canPayTo_4 rfl (lv_at hl 1 rfl) ?_
  refine t_cald C hI hi_l0 (by decide) hf dX2_canPayTo_5 (fun v1 hf => ?_)
  refine lv_iload_n hx hb dX2_canPayTo_6 rfl (lv_at hl 3 rfl) ?_
  refine lv_isub hx hb dX2_canPayTo_7 ?_
  refine lv_sipush (v := (-9999)) hx hb dX2_canPayTo_8 (by decide) ?_
  refine b_iclt (tgt := 32) hx hb hf dX2_canPayTo_11 (by decide) (fun hf => ?_) (fun hf => ?_)
  · refine lv_iconst (v := 0) hx hb dX2_canPayTo_32 (by decide) ?_
    exact t_zretc C hI zb_0 hf dX2_canPayTo_33
  · refine lv_aload_n hx hb dX2_canPayTo_14 rfl (lv_at hl 0 rfl) ?_
    refine tgX2_19 C hI hi_l0 dX2_canPayTo_15 ?_
    refine lv_iload_n hx hb dX2_canPayTo_18 rfl (lv_at hl 2 rfl) ?_
    refine t_cald C hI hi_l0 (by decide) hf dX2_canPayTo_19 (fun v2 hf => ?_)
    refine lv_iload_n hx hb dX2_canPayTo_20 rfl (lv_at hl 3 rfl) ?_
    refine lv_iadd hx hb dX2_canPayTo_21 ?_
    refine lv_sipush (v := 9999) hx hb dX2_canPayTo_22 (by decide) ?_
    refine b_icgt (tgt := 32) hx hb hf dX2_canPayTo_25 (by decide) (fun hf => ?_) (fun hf => ?_)
    · refine lv_iconst (v := 0) hx hb dX2_canPayTo_32 (by decide) ?_
      exact t_zretc C hI zb_0 hf dX2_canPayTo_33
    · refine lv_iconst (v := 1) hx hb dX2_canPayTo_28 (by decide) ?_
      refine lv_goto (tgt := 33) hx hb dX2_canPayTo_29 (by decide) ?_
      exact t_zretc C hI zb_1 hf dX2_canPayTo_33
/-! TwelveChain$Chain.pays(III)V -/
abbrev frC_pays : Nat := 2
abbrev loC_pays : Nat := 47
def fC_pays (N : Nat) (B : Nat × Nat) (x : TS) (l0 : cIx) (l1 : Int32) (l2 : Int32) (l3 : Int32) : Option TS :=
  (rd 12 (tC x l0 1) l1).bind fun v1 =>
  (wrC x l0 1 l1 (v1 - l3)).bind fun x2 =>
  (rd 12 (tC x2 l0 1) l2).bind fun v3 =>
  (wrC x2 l0 1 l2 (v3 + l3)).bind fun x4 =>
  (fC_notes N B x4 l0 2 l1 l3).bind fun x5 =>
  some x5
theorem tmC_pays (l : Launch) (N : Nat) {w : tO} {A : Nat → Prop} (B : Nat × Nat) {l0 : Nat} (hi_l0 : l0 < wn w) : ∀ (x : TS) (l1 : Int32) (l2 : Int32) (l3 : Int32) (xr : TS), fC_pays N B x l0 l1 l2 l3 = some xr → tMet l yX2_pays (ws_ yX2_pays cX2_pays 4 none) frC_pays loC_pays [.ref (wG w l0 5), .int l1, .int l2, .int l3] w A B x none xr := by
  intro x l1 l2 l3 xr hf
  refine t_start (cc := cX2_pays) (own := RX2) (by decide +kernel) rfl (Nat.le_of_ble_eq_true rfl) rfl ?_
  intro p e s m args below meth c ls H locs C hmn hI hl
  have hx := C.1.1
  have hb := C.1.2.1
  have hown := C.1.2.2.2.1
  have hts := C.1.2.2.2.2.1
  have hE := C.2.2
  rw [fC_pays] at hf
  refine lv_aload_n hx hb dX2_pays_0 rfl (lv_at hl 0 rfl) ?_
  refine tgX2_19 C hI hi_l0 dX2_pays_1 ?_
  refine lv_iload_n hx hb dX2_pays_4 rfl (lv_at hl 1 rfl) ?_
  refine lv_dup2_11 hx hb dX2_pays_5 rfl rfl ?_
  refine t_cald C hI hi_l0 (by decide) hf dX2_pays_6 (fun v1 hf => ?_)
  refine lv_iload_n hx hb dX2_pays_7 rfl (lv_at hl 3 rfl) ?_
  refine lv_isub hx hb dX2_pays_8 ?_
  refine t_cast C hI hi_l0 (by decide) hf dX2_pays_9 (fun x2 H locs hI hf => ?_)
  refine lv_aload_n hx hb dX2_pays_10 rfl (lv_at hl 0 rfl) ?_
  refine tgX2_19 C hI hi_l0 dX2_pays_11 ?_
  refine lv_iload_n hx hb dX2_pays_14 rfl (lv_at hl 2 rfl) ?_
  refine lv_dup2_11 hx hb dX2_pays_15 rfl rfl ?_
  refine t_cald C hI hi_l0 (by decide) hf dX2_pays_16 (fun v3 hf => ?_)
  refine lv_iload_n hx hb dX2_pays_17 rfl (lv_at hl 3 rfl) ?_
  refine lv_iadd hx hb dX2_pays_18 ?_
  refine t_cast C hI hi_l0 (by decide) hf dX2_pays_19 (fun x4 H locs hI hf => ?_)
  refine lv_aload_n hx hb dX2_pays_20 rfl (lv_at hl 0 rfl) ?_
  refine lv_iconst (v := 2) hx hb dX2_pays_21 (by decide) ?_
  refine lv_iload_n hx hb dX2_pays_22 rfl (lv_at hl 1 rfl) ?_
  refine lv_iload_n hx hb dX2_pays_23 rfl (lv_at hl 3 rfl) ?_
  refine t_cVv (rest := []) C hI hf (tmC_notes l N B hi_l0 _ _ _ _) (rv_chain C hI hi_l0) cqX2_C_notes ⟨Nat.le_of_ble_eq_true rfl, Nat.le_of_ble_eq_true rfl⟩ rfl hl.1 rfl (Nat.le_of_ble_eq_true rfl) dX2_pays_24 (fun x5 H locs hI hf => ?_)
  exact t_vret C hI hf dX2_pays_27
/-! TwelveChain$Chain.canPaper(I)Z -/
abbrev frC_canPaper : Nat := 2
abbrev loC_canPaper : Nat := 42
def fC_canPaper (N : Nat) (B : Nat × Nat) (x : TS) (l0 : cIx) (l1 : Int32) : Option (Int32 × TS) :=
  (fT_has N (tF x l0 5) l1).bind fun v1 =>
  if v1 = 0 then
    b2 (fC_isThere N B x l0 l1) fun v3 x2 =>
    if v3 = 0 then
      some (0, x2)
    else
      some (1, x2)
  else
    some (0, x)
theorem tmC_canPaper (l : Launch) (N : Nat) {w : tO} {A : Nat → Prop} (B : Nat × Nat) {l0 : Nat} (hi_l0 : l0 < wn w) : ∀ (x : TS) (l1 : Int32) (r : Int32) (xr : TS), fC_canPaper N B x l0 l1 = some (r, xr) → tMet l yX2_canPaper (ws_ yX2_canPaper cX2_canPaper 2 (some .boolean)) frC_canPaper loC_canPaper [.ref (wG w l0 5), .int l1] w A B x (some (.int r)) xr := by
  intro x l1 r xr hf
  refine t_start (cc := cX2_canPaper) (own := RX2) (by decide +kernel) rfl (Nat.le_of_ble_eq_true rfl) rfl ?_
  intro p e s m args below meth c ls H locs C hmn hI hl
  have hx := C.1.1
  have hb := C.1.2.1
  have hown := C.1.2.2.2.1
  have hts := C.1.2.2.2.2.1
  have hE := C.2.2
  rw [fC_canPaper] at hf
  refine lv_aload_n hx hb dX2_canPaper_0 rfl (lv_at hl 0 rfl) ?_
  refine tgX2_35 C hI hi_l0 dX2_canPaper_1 ?_
  refine lv_iload_n hx hb dX2_canPaper_4 rfl (lv_at hl 1 rfl) ?_
  refine g_calliSN (rest := []) C hf (smT_has l N _ _) cn_T_has q888 (List.mem_of_getElem? (i := 6) rfl) ⟨rfl, rfl⟩ ⟨Nat.le_of_ble_eq_true rfl, Nat.le_of_ble_eq_true rfl⟩ rfl hl.1 rfl (Nat.le_of_ble_eq_true rfl) (t_room hI) dX2_canPaper_5 (fun v1 hf => ?_)
  refine b_ifne (tgt := 23) hx hb hf dX2_canPaper_8 (by decide) (fun hf => ?_) (fun hf => ?_)
  · refine lv_iconst (v := 0) hx hb dX2_canPaper_23 (by decide) ?_
    exact t_zretc C hI zb_0 hf dX2_canPaper_24
  · refine lv_aload_n hx hb dX2_canPaper_11 rfl (lv_at hl 0 rfl) ?_
    refine lv_iload_n hx hb dX2_canPaper_12 rfl (lv_at hl 1 rfl) ?_
    refine t_cVi (rest := []) C hI hf (tmC_isThere l N B hi_l0 _ _) (rv_chain C hI hi_l0) cqX2_C_isThere ⟨Nat.le_of_ble_eq_true rfl, Nat.le_of_ble_eq_true rfl⟩ rfl hl.1 rfl (Nat.le_of_ble_eq_true rfl) dX2_canPaper_13 (fun v3 x2 H locs hI hf => ?_)
    refine b_ifeq (tgt := 23) hx hb hf dX2_canPaper_16 (by decide) (fun hf => ?_) (fun hf => ?_)
    · refine lv_iconst (v := 0) hx hb dX2_canPaper_23 (by decide) ?_
      exact t_zretc C hI zb_0 hf dX2_canPaper_24
    · refine lv_iconst (v := 1) hx hb dX2_canPaper_19 (by decide) ?_
      refine lv_goto (tgt := 24) hx hb dX2_canPaper_20 (by decide) ?_
      exact t_zretc C hI zb_1 hf dX2_canPaper_24
/-! TwelveChain$Chain.papers(I)V -/
abbrev frC_papers : Nat := 2
abbrev loC_papers : Nat := 47
def fC_papers (N : Nat) (B : Nat × Nat) (x : TS) (l0 : cIx) (l1 : Int32) : Option TS :=
  (fC_notes N B (sTF x l0 5 ((tF x l0 5) ||| (1 <<< (l1 &&& 31)))) l0 3 l1 0).bind fun x1 =>
  some x1
theorem tmC_papers (l : Launch) (N : Nat) {w : tO} {A : Nat → Prop} (B : Nat × Nat) {l0 : Nat} (hi_l0 : l0 < wn w) : ∀ (x : TS) (l1 : Int32) (xr : TS), fC_papers N B x l0 l1 = some xr → tMet l yX2_papers (ws_ yX2_papers cX2_papers 2 none) frC_papers loC_papers [.ref (wG w l0 5), .int l1] w A B x none xr := by
  intro x l1 xr hf
  refine t_start (cc := cX2_papers) (own := RX2) (by decide +kernel) rfl (Nat.le_of_ble_eq_true rfl) rfl ?_
  intro p e s m args below meth c ls H locs C hmn hI hl
  have hx := C.1.1
  have hb := C.1.2.1
  have hown := C.1.2.2.2.1
  have hts := C.1.2.2.2.2.1
  have hE := C.2.2
  rw [fC_papers] at hf
  refine lv_aload_n hx hb dX2_papers_0 rfl (lv_at hl 0 rfl) ?_
  refine lv_dup hx hb dX2_papers_1 rfl ?_
  refine tgX2_35 C hI hi_l0 dX2_papers_2 ?_
  refine lv_iconst (v := 1) hx hb dX2_papers_5 (by decide) ?_
  refine lv_iload_n hx hb dX2_papers_6 rfl (lv_at hl 1 rfl) ?_
  refine lv_ishl hx hb dX2_papers_7 ?_
  refine lv_ior hx hb dX2_papers_8 ?_
  refine tpX2_35 C hI hi_l0 dX2_papers_9 (fun H locs hI => ?_)
  refine lv_aload_n hx hb dX2_papers_12 rfl (lv_at hl 0 rfl) ?_
  refine lv_iconst (v := 3) hx hb dX2_papers_13 (by decide) ?_
  refine lv_iload_n hx hb dX2_papers_14 rfl (lv_at hl 1 rfl) ?_
  refine lv_iconst (v := 0) hx hb dX2_papers_15 (by decide) ?_
  refine t_cVv (rest := []) C hI hf (tmC_notes l N B hi_l0 _ _ _ _) (rv_chain C hI hi_l0) cqX2_C_notes ⟨Nat.le_of_ble_eq_true rfl, Nat.le_of_ble_eq_true rfl⟩ rfl hl.1 rfl (Nat.le_of_ble_eq_true rfl) dX2_papers_16 (fun x1 H locs hI hf => ?_)
  exact t_vret C hI hf dX2_papers_19
/-! TwelveChain$Chain.joins(I)V -/
abbrev frC_joins : Nat := 2
abbrev loC_joins : Nat := 47
def fC_joins (N : Nat) (B : Nat × Nat) (x : TS) (l0 : cIx) (l1 : Int32) : Option TS :=
  (fC_notes N B (sTF (sTF x l0 6 ((tF x l0 6) &&& ((1 <<< (l1 &&& 31)) ^^^ (-1)))) l0 5 ((tF (sTF x l0 6 ((tF x l0 6) &&& ((1 <<< (l1 &&& 31)) ^^^ (-1)))) l0 5) &&& ((1 <<< (l1 &&& 31)) ^^^ (-1)))) l0 6 l1 0).bind fun x1 =>
  some x1
theorem tmC_joins (l : Launch) (N : Nat) {w : tO} {A : Nat → Prop} (B : Nat × Nat) {l0 : Nat} (hi_l0 : l0 < wn w) : ∀ (x : TS) (l1 : Int32) (xr : TS), fC_joins N B x l0 l1 = some xr → tMet l yX2_joins (ws_ yX2_joins cX2_joins 2 none) frC_joins loC_joins [.ref (wG w l0 5), .int l1] w A B x none xr := by
  intro x l1 xr hf
  refine t_start (cc := cX2_joins) (own := RX2) (by decide +kernel) rfl (Nat.le_of_ble_eq_true rfl) rfl ?_
  intro p e s m args below meth c ls H locs C hmn hI hl
  have hx := C.1.1
  have hb := C.1.2.1
  have hown := C.1.2.2.2.1
  have hts := C.1.2.2.2.2.1
  have hE := C.2.2
  rw [fC_joins] at hf
  refine lv_aload_n hx hb dX2_joins_0 rfl (lv_at hl 0 rfl) ?_
  refine lv_dup hx hb dX2_joins_1 rfl ?_
  refine tgX2_39 C hI hi_l0 dX2_joins_2 ?_
  refine lv_iconst (v := 1) hx hb dX2_joins_5 (by decide) ?_
  refine lv_iload_n hx hb dX2_joins_6 rfl (lv_at hl 1 rfl) ?_
  refine lv_ishl hx hb dX2_joins_7 ?_
  refine lv_iconst (v := (-1)) hx hb dX2_joins_8 (by decide) ?_
  refine lv_ixor hx hb dX2_joins_9 ?_
  refine lv_iand hx hb dX2_joins_10 ?_
  refine tpX2_39 C hI hi_l0 dX2_joins_11 (fun H locs hI => ?_)
  refine lv_aload_n hx hb dX2_joins_14 rfl (lv_at hl 0 rfl) ?_
  refine lv_dup hx hb dX2_joins_15 rfl ?_
  refine tgX2_35 C hI hi_l0 dX2_joins_16 ?_
  refine lv_iconst (v := 1) hx hb dX2_joins_19 (by decide) ?_
  refine lv_iload_n hx hb dX2_joins_20 rfl (lv_at hl 1 rfl) ?_
  refine lv_ishl hx hb dX2_joins_21 ?_
  refine lv_iconst (v := (-1)) hx hb dX2_joins_22 (by decide) ?_
  refine lv_ixor hx hb dX2_joins_23 ?_
  refine lv_iand hx hb dX2_joins_24 ?_
  refine tpX2_35 C hI hi_l0 dX2_joins_25 (fun H locs hI => ?_)
  refine lv_aload_n hx hb dX2_joins_28 rfl (lv_at hl 0 rfl) ?_
  refine lv_bipush (v := 6) hx hb dX2_joins_29 (by decide) ?_
  refine lv_iload_n hx hb dX2_joins_31 rfl (lv_at hl 1 rfl) ?_
  refine lv_iconst (v := 0) hx hb dX2_joins_32 (by decide) ?_
  refine t_cVv (rest := []) C hI hf (tmC_notes l N B hi_l0 _ _ _ _) (rv_chain C hI hi_l0) cqX2_C_notes ⟨Nat.le_of_ble_eq_true rfl, Nat.le_of_ble_eq_true rfl⟩ rfl hl.1 rfl (Nat.le_of_ble_eq_true rfl) dX2_joins_33 (fun x1 H locs hI hf => ?_)
  exact t_vret C hI hf dX2_joins_36
/-! TwelveChain$Chain.draw(I)I -/
abbrev frC_draw : Nat := 0
abbrev loC_draw : Nat := 0
def fC_draw (N : Nat) (B : Nat × Nat) (x : TS) (l0 : cIx) (l1 : Int32) : Option (Int32 × TS) :=
  (rm_ (ush (tF (sTF x l0 10 ((1664525 * (tF x l0 10)) + 1013904223)) l0 10) 8) l1).bind fun v1 =>
  some (v1, sTF x l0 10 ((1664525 * (tF x l0 10)) + 1013904223))
theorem tmC_draw (l : Launch) (N : Nat) {w : tO} {A : Nat → Prop} (B : Nat × Nat) {l0 : Nat} (hi_l0 : l0 < wn w) : ∀ (x : TS) (l1 : Int32) (r : Int32) (xr : TS), fC_draw N B x l0 l1 = some (r, xr) → tMet l yX2_draw (ws_ yX2_draw cX2_draw 2 (some .int)) frC_draw loC_draw [.ref (wG w l0 5), .int l1] w A B x (some (.int r)) xr := by
  intro x l1 r xr hf
  refine t_start (cc := cX2_draw) (own := RX2) (by decide +kernel) rfl (Nat.le_of_ble_eq_true rfl) rfl ?_
  intro p e s m args below meth c ls H locs C hmn hI hl
  have hx := C.1.1
  have hb := C.1.2.1
  have hown := C.1.2.2.2.1
  have hts := C.1.2.2.2.2.1
  have hE := C.2.2
  rw [fC_draw] at hf
  refine lv_aload_n hx hb dX2_draw_0 rfl (lv_at hl 0 rfl) ?_
  refine lv_ldc hx hb hown (hts _ q1063) dX2_draw_1 ?_
  refine lv_aload_n hx hb dX2_draw_3 rfl (lv_at hl 0 rfl) ?_
  refine tgX2_51 C hI hi_l0 dX2_draw_4 ?_
  refine lv_imul hx hb dX2_draw_7 ?_
  refine lv_ldc hx hb hown (hts _ q1064) dX2_draw_8 ?_
  refine lv_iadd hx hb dX2_draw_10 ?_
  refine tpX2_51 C hI hi_l0 dX2_draw_11 (fun H locs hI => ?_)
  refine lv_aload_n hx hb dX2_draw_14 rfl (lv_at hl 0 rfl) ?_
  refine tgX2_51 C hI hi_l0 dX2_draw_15 ?_
  refine lv_bipush (v := 8) hx hb dX2_draw_18 (by decide) ?_
  refine lv_iushr (v := ush (tF (sTF x l0 10 ((1664525 * (tF x l0 10)) + 1013904223)) l0 10) 8) hx hb dX2_draw_20 rfl ?_
  refine lv_iload_n hx hb dX2_draw_21 rfl (lv_at hl 1 rfl) ?_
  refine b_irem hx hb hf dX2_draw_22 (fun v1 hf => ?_)
  exact t_iret C hI hf dX2_draw_23
/-! TwelveChain$Chain.comes(I)Z -/
abbrev frC_comes : Nat := 1
abbrev loC_comes : Nat := 21
def fC_comes (N : Nat) (B : Nat × Nat) (x : TS) (l0 : cIx) (l1 : Int32) : Option (Int32 × TS) :=
  if (tF x l0 12) = 0 then
    b2 (fC_draw N B x l0 1000) fun v2 x1 =>
    if l1 ≤ v2 then
      some (0, x1)
    else
      some (1, x1)
  else
    if (2 * l1) < 1000 then
      some (0, x)
    else
      some (1, x)
theorem tmC_comes (l : Launch) (N : Nat) {w : tO} {A : Nat → Prop} (B : Nat × Nat) {l0 : Nat} (hi_l0 : l0 < wn w) : ∀ (x : TS) (l1 : Int32) (r : Int32) (xr : TS), fC_comes N B x l0 l1 = some (r, xr) → tMet l yX2_comes (ws_ yX2_comes cX2_comes 2 (some .boolean)) frC_comes loC_comes [.ref (wG w l0 5), .int l1] w A B x (some (.int r)) xr := by
  intro x l1 r xr hf
  refine t_start (cc := cX2_comes) (own := RX2) (by decide +kernel) rfl (Nat.le_of_ble_eq_true rfl) rfl ?_
  intro p e s m args below meth c ls H locs C hmn hI hl
  have hx := C.1.1
  have hb := C.1.2.1
  have hown := C.1.2.2.2.1
  have hts := C.1.2.2.2.2.1
  have hE := C.2.2
  rw [fC_comes] at hf
  refine lv_aload_n hx hb dX2_comes_0 rfl (lv_at hl 0 rfl) ?_
  refine tgX2_61 C hI hi_l0 dX2_comes_1 ?_
  refine b_ifeq (tgt := 24) hx hb hf dX2_comes_4 (by decide) (fun hf => ?_) (fun hf => ?_)
  · refine lv_aload_n hx hb dX2_comes_24 rfl (lv_at hl 0 rfl) ?_
    refine lv_sipush (v := 1000) hx hb dX2_comes_25 (by decide) ?_
    refine t_cVi (rest := []) C hI hf (tmC_draw l N B hi_l0 _ _) (rv_chain C hI hi_l0) cqX2_C_draw ⟨Nat.le_of_ble_eq_true rfl, Nat.le_of_ble_eq_true rfl⟩ rfl hl.1 rfl (Nat.le_of_ble_eq_true rfl) dX2_comes_28 (fun v2 x1 H locs hI hf => ?_)
    refine lv_iload_n hx hb dX2_comes_31 rfl (lv_at hl 1 rfl) ?_
    refine b_icge (tgt := 39) hx hb hf dX2_comes_32 (by decide) (fun hf => ?_) (fun hf => ?_)
    · refine lv_iconst (v := 0) hx hb dX2_comes_39 (by decide) ?_
      exact t_zretc C hI zb_0 hf dX2_comes_40
    · refine lv_iconst (v := 1) hx hb dX2_comes_35 (by decide) ?_
      refine lv_goto (tgt := 40) hx hb dX2_comes_36 (by decide) ?_
      exact t_zretc C hI zb_1 hf dX2_comes_40
  · refine lv_iconst (v := 2) hx hb dX2_comes_7 (by decide) ?_
    refine lv_iload_n hx hb dX2_comes_8 rfl (lv_at hl 1 rfl) ?_
    refine lv_imul hx hb dX2_comes_9 ?_
    refine lv_sipush (v := 1000) hx hb dX2_comes_10 (by decide) ?_
    refine b_iclt (tgt := 20) hx hb hf dX2_comes_13 (by decide) (fun hf => ?_) (fun hf => ?_)
    · refine lv_iconst (v := 0) hx hb dX2_comes_20 (by decide) ?_
      refine lv_goto (tgt := 40) hx hb dX2_comes_21 (by decide) ?_
      exact t_zretc C hI zb_0 hf dX2_comes_40
    · refine lv_iconst (v := 1) hx hb dX2_comes_16 (by decide) ?_
      refine lv_goto (tgt := 40) hx hb dX2_comes_17 (by decide) ?_
      exact t_zretc C hI zb_1 hf dX2_comes_40
/-! TwelveChain$Deed.a()I -/
abbrev frDe_a : Nat := 0
abbrev loDe_a : Nat := 0
def fDe_a (N : Nat) (B : Nat × Nat) (x : TS) (l0 : Nat) : Option (Int32 × TS) :=
  (dgI x l0 11 2).bind fun v1 =>
  some (v1, x)
theorem tmDe_a (l : Launch) (N : Nat) {w : tO} {A : Nat → Prop} (B : Nat × Nat) : ∀ (x : TS) (l0 : Nat) (r : Int32) (xr : TS), fDe_a N B x l0 = some (r, xr) → tMet l yX12_a (ws_ yX12_a cX12_a 1 (some .int)) frDe_a loDe_a [.ref l0] w A B x (some (.int r)) xr := by
  intro x l0 r xr hf
  refine t_start (cc := cX12_a) (own := RX12) (by decide +kernel) rfl (Nat.le_of_ble_eq_true rfl) rfl ?_
  intro p e s m args below meth c ls H locs C hmn hI hl
  have hx := C.1.1
  have hb := C.1.2.1
  have hown := C.1.2.2.2.1
  have hts := C.1.2.2.2.2.1
  have hE := C.2.2
  rw [fDe_a] at hf
  refine lv_aload_n hx hb dX12_a_0 rfl (lv_at hl 0 rfl) ?_
  refine tgX12_16 C hI hf dX12_a_1 (fun v1 hf => ?_)
  exact t_iret C hI hf dX12_a_4
/-! TwelveChain$Deed.b()I -/
abbrev frDe_b : Nat := 0
abbrev loDe_b : Nat := 0
def fDe_b (N : Nat) (B : Nat × Nat) (x : TS) (l0 : Nat) : Option (Int32 × TS) :=
  (dgI x l0 11 3).bind fun v1 =>
  some (v1, x)
theorem tmDe_b (l : Launch) (N : Nat) {w : tO} {A : Nat → Prop} (B : Nat × Nat) : ∀ (x : TS) (l0 : Nat) (r : Int32) (xr : TS), fDe_b N B x l0 = some (r, xr) → tMet l yX12_b (ws_ yX12_b cX12_b 1 (some .int)) frDe_b loDe_b [.ref l0] w A B x (some (.int r)) xr := by
  intro x l0 r xr hf
  refine t_start (cc := cX12_b) (own := RX12) (by decide +kernel) rfl (Nat.le_of_ble_eq_true rfl) rfl ?_
  intro p e s m args below meth c ls H locs C hmn hI hl
  have hx := C.1.1
  have hb := C.1.2.1
  have hown := C.1.2.2.2.1
  have hts := C.1.2.2.2.2.1
  have hE := C.2.2
  rw [fDe_b] at hf
  refine lv_aload_n hx hb dX12_b_0 rfl (lv_at hl 0 rfl) ?_
  refine tgX12_19 C hI hf dX12_b_1 (fun v1 hf => ?_)
  exact t_iret C hI hf dX12_b_4
/-! TwelveChain$Deed.n()I -/
abbrev frDe_n : Nat := 0
abbrev loDe_n : Nat := 0
def fDe_n (N : Nat) (B : Nat × Nat) (x : TS) (l0 : Nat) : Option (Int32 × TS) :=
  (dgI x l0 11 4).bind fun v1 =>
  some (v1, x)
theorem tmDe_n (l : Launch) (N : Nat) {w : tO} {A : Nat → Prop} (B : Nat × Nat) : ∀ (x : TS) (l0 : Nat) (r : Int32) (xr : TS), fDe_n N B x l0 = some (r, xr) → tMet l yX12_n (ws_ yX12_n cX12_n 1 (some .int)) frDe_n loDe_n [.ref l0] w A B x (some (.int r)) xr := by
  intro x l0 r xr hf
  refine t_start (cc := cX12_n) (own := RX12) (by decide +kernel) rfl (Nat.le_of_ble_eq_true rfl) rfl ?_
  intro p e s m args below meth c ls H locs C hmn hI hl
  have hx := C.1.1
  have hb := C.1.2.1
  have hown := C.1.2.2.2.1
  have hts := C.1.2.2.2.2.1
  have hE := C.2.2
  rw [fDe_n] at hf
  refine lv_aload_n hx hb dX12_n_0 rfl (lv_at hl 0 rfl) ?_
  refine tgX12_22 C hI hf dX12_n_1 (fun v1 hf => ?_)
  exact t_iret C hI hf dX12_n_4
/-! TwelveChain$Deed.what()I -/
abbrev frDe_what : Nat := 0
abbrev loDe_what : Nat := 0
def fDe_what (N : Nat) (B : Nat × Nat) (x : TS) (l0 : Nat) : Option (Int32 × TS) :=
  (dgI x l0 11 1).bind fun v1 =>
  some (v1, x)
theorem tmDe_what (l : Launch) (N : Nat) {w : tO} {A : Nat → Prop} (B : Nat × Nat) : ∀ (x : TS) (l0 : Nat) (r : Int32) (xr : TS), fDe_what N B x l0 = some (r, xr) → tMet l yX12_what (ws_ yX12_what cX12_what 1 (some .int)) frDe_what loDe_what [.ref l0] w A B x (some (.int r)) xr := by
  intro x l0 r xr hf
  refine t_start (cc := cX12_what) (own := RX12) (by decide +kernel) rfl (Nat.le_of_ble_eq_true rfl) rfl ?_
  intro p e s m args below meth c ls H locs C hmn hI hl
  have hx := C.1.1
  have hb := C.1.2.1
  have hown := C.1.2.2.2.1
  have hts := C.1.2.2.2.2.1
  have hE := C.2.2
  rw [fDe_what] at hf
  refine lv_aload_n hx hb dX12_what_0 rfl (lv_at hl 0 rfl) ?_
  refine tgX12_13 C hI hf dX12_what_1 (fun v1 hf => ?_)
  exact t_iret C hI hf dX12_what_4
/-! TwelveChain$Chain.losesReady(I)V -/
abbrev frC_losesReady : Nat := 1
abbrev loC_losesReady : Nat := 21
def fC_losesReady (N : Nat) (B : Nat × Nat) (x : TS) (l0 : cIx) (l1 : Int32) : Option TS :=
  if l1 < 0 then
    some x
  else
    if (tS x 21) ≤ l1 then
      some x
    else
      b2 (fC_isMoved N B x l0 l1) fun v2 x1 =>
      if v2 = 0 then
        some (sTF x1 l0 5 ((tF x1 l0 5) &&& ((1 <<< (l1 &&& 31)) ^^^ (-1))))
      else
        some x1
theorem tmC_losesReady (l : Launch) (N : Nat) {w : tO} {A : Nat → Prop} (B : Nat × Nat) {l0 : Nat} (hi_l0 : l0 < wn w) : ∀ (x : TS) (l1 : Int32) (xr : TS), fC_losesReady N B x l0 l1 = some xr → tMet l yX2_losesReady (ws_ yX2_losesReady cX2_losesReady 2 none) frC_losesReady loC_losesReady [.ref (wG w l0 5), .int l1] w A B x none xr := by
  intro x l1 xr hf
  refine t_start (cc := cX2_losesReady) (own := RX2) (by decide +kernel) rfl (Nat.le_of_ble_eq_true rfl) rfl ?_
  intro p e s m args below meth c ls H locs C hmn hI hl
  have hx := C.1.1
  have hb := C.1.2.1
  have hown := C.1.2.2.2.1
  have hts := C.1.2.2.2.2.1
  have hE := C.2.2
  rw [fC_losesReady] at hf
  refine lv_iload_n hx hb dX2_losesReady_0 rfl (lv_at hl 1 rfl) ?_
  refine b_iflt (tgt := 37) hx hb hf dX2_losesReady_1 (by decide) (fun hf => ?_) (fun hf => ?_)
  · exact t_vret C hI hf dX2_losesReady_37
  · refine lv_iload_n hx hb dX2_losesReady_4 rfl (lv_at hl 1 rfl) ?_
    refine lv_aload_n hx hb dX2_losesReady_5 rfl (lv_at hl 0 rfl) ?_
    refine tgX2_3 C hI hi_l0 dX2_losesReady_6 ?_
    refine tgN_75 C hI dX2_losesReady_9 ?_
    refine b_icge (tgt := 37) hx hb hf dX2_losesReady_12 (by decide) (fun hf => ?_) (fun hf => ?_)
    · exact t_vret C hI hf dX2_losesReady_37
    · refine lv_aload_n hx hb dX2_losesReady_15 rfl (lv_at hl 0 rfl) ?_
      refine lv_iload_n hx hb dX2_losesReady_16 rfl (lv_at hl 1 rfl) ?_
      refine t_cVi (rest := []) C hI hf (tmC_isMoved l N B hi_l0 _ _) (rv_chain C hI hi_l0) cqX2_C_isMoved ⟨Nat.le_of_ble_eq_true rfl, Nat.le_of_ble_eq_true rfl⟩ rfl hl.1 rfl (Nat.le_of_ble_eq_true rfl) dX2_losesReady_17 (fun v2 x1 H locs hI hf => ?_)
      refine b_ifne (tgt := 37) hx hb hf dX2_losesReady_20 (by decide) (fun hf => ?_) (fun hf => ?_)
      · exact t_vret C hI hf dX2_losesReady_37
      · refine lv_aload_n hx hb dX2_losesReady_23 rfl (lv_at hl 0 rfl) ?_
        refine lv_dup hx hb dX2_losesReady_24 rfl ?_
        refine tgX2_35 C hI hi_l0 dX2_losesReady_25 ?_
        refine lv_iconst (v := 1) hx hb dX2_losesReady_28 (by decide) ?_
        refine lv_iload_n hx hb dX2_losesReady_29 rfl (lv_at hl 1 rfl) ?_
        refine lv_ishl hx hb dX2_losesReady_30 ?_
        refine lv_iconst (v := (-1)) hx hb dX2_losesReady_31 (by decide) ?_
        refine lv_ixor hx hb dX2_losesReady_32 ?_
        refine lv_iand hx hb dX2_losesReady_33 ?_
        refine tpX2_35 C hI hi_l0 dX2_losesReady_34 (fun H locs hI => ?_)
        exact t_vret C hI hf dX2_losesReady_37
/-! TwelveChain$Chain.falls(I)V -/
abbrev frC_falls : Nat := 2
abbrev loC_falls : Nat := 47
def fC_falls_b26 (N : Nat) (B : Nat × Nat) : Nat → TS → cIx → Int32 → Int32 → Option TS
  | 0, _, _, _, _ => none
  | n + 1, x, l0, l1, l2 =>
  if (l1 + 1) < l2 then
    (fC_notes N B x l0 4 l1 0).bind fun x1 =>
    some x1
  else
    (fC_losesReady N B x l0 l2).bind fun x2 =>
    fC_falls_b26 N B n x2 l0 l1 (l2 + 1)
theorem w_fC_falls_b26 {N : Nat} {B : Nat × Nat} {xr : TS} (C : tCx w A p s m args meth c cX2_falls 3 RX2 none) : ∀ (n : Nat) (x : TS) (l0 : cIx) (l1 : Int32) (l2 : Int32) (H : Heap) (locs : List Loc) (ls : Array Slot), l0 < wn w → tI w A B x s.heap H locs → lv_has ls 3 [(0, .ref (wG w l0 5)), (1, .int l1), (2, .int l2)] → fC_falls_b26 N B n x l0 l1 l2 = some xr → W p l e (tRm B frC_falls loC_falls s.heap.size (SL s.heap)) s m args below meth c H locs (tZ x - s.heap.size) (tY x - SL s.heap) (MQ below (tQ w A B none xr) args s (B.1 - s.heap.size) (B.2 - SL s.heap) A) (F0 m 26 ls []) := by
  have hx := C.1.1
  have hb := C.1.2.1
  have hown := C.1.2.2.2.1
  have hts := C.1.2.2.2.2.1
  have hE := C.2.2
  intro n
  induction n with
  | zero => intro x l0 l1 l2 H locs ls hi_l0 hI hl hf; rw [fC_falls_b26] at hf; cases hf
  | succ n ih =>
  intro x l0 l1 l2 H locs ls hi_l0 hI hl hf
  rw [fC_falls_b26] at hf
  refine lv_iload_n hx hb dX2_falls_26 rfl (lv_at hl 2 rfl) ?_
  refine lv_iload_n hx hb dX2_falls_27 rfl (lv_at hl 1 rfl) ?_
  refine lv_iconst (v := 1) hx hb dX2_falls_28 (by decide) ?_
  refine lv_iadd hx hb dX2_falls_29 ?_
  refine b_icgt (tgt := 44) hx hb hf dX2_falls_30 (by decide) (fun hf => ?_) (fun hf => ?_)
  · refine lv_aload_n hx hb dX2_falls_44 rfl (lv_at hl 0 rfl) ?_
    refine lv_iconst (v := 4) hx hb dX2_falls_45 (by decide) ?_
    refine lv_iload_n hx hb dX2_falls_46 rfl (lv_at hl 1 rfl) ?_
    refine lv_iconst (v := 0) hx hb dX2_falls_47 (by decide) ?_
    refine t_cVv (rest := []) C hI hf (tmC_notes l N B hi_l0 _ _ _ _) (rv_chain C hI hi_l0) cqX2_C_notes ⟨Nat.le_of_ble_eq_true rfl, Nat.le_of_ble_eq_true rfl⟩ rfl hl.1 rfl (Nat.le_of_ble_eq_true rfl) dX2_falls_48 (fun x1 H locs hI hf => ?_)
    exact t_vret C hI hf dX2_falls_51
  · refine lv_aload_n hx hb dX2_falls_33 rfl (lv_at hl 0 rfl) ?_
    refine lv_iload_n hx hb dX2_falls_34 rfl (lv_at hl 2 rfl) ?_
    refine t_cVv (rest := []) C hI hf (tmC_losesReady l N B hi_l0 _ _) (rv_chain C hI hi_l0) cqX2_C_losesReady ⟨Nat.le_of_ble_eq_true rfl, Nat.le_of_ble_eq_true rfl⟩ rfl hl.1 rfl (Nat.le_of_ble_eq_true rfl) dX2_falls_35 (fun x2 H locs hI hf => ?_)
    refine lv_iinc (v := l2 + 1) (lv' := [(2, .int (l2 + 1)), (0, .ref (wG w l0 5)), (1, .int l1)]) hx hb dX2_falls_38 hl (k := 2) rfl rfl (by decide) rfl (fun ls hl => ?_)
    refine lv_goto (tgt := 26) hx hb dX2_falls_41 (by decide) ?_
    exact ih x2 l0 l1 (l2 + 1) _ _ _ hi_l0 hI (lv_sub hl [1, 2, 0] rfl) hf
def fC_falls (N : Nat) (B : Nat × Nat) (x : TS) (l0 : cIx) (l1 : Int32) : Option TS :=
  fC_falls_b26 N B N (sTF (sTF x l0 6 ((tF x l0 6) ||| (1 <<< (l1 &&& 31)))) l0 9 ((tF (sTF x l0 6 ((tF x l0 6) ||| (1 <<< (l1 &&& 31)))) l0 9) + 1)) l0 l1 (l1 - 1)
theorem tmC_falls (l : Launch) (N : Nat) {w : tO} {A : Nat → Prop} (B : Nat × Nat) {l0 : Nat} (hi_l0 : l0 < wn w) : ∀ (x : TS) (l1 : Int32) (xr : TS), fC_falls N B x l0 l1 = some xr → tMet l yX2_falls (ws_ yX2_falls cX2_falls 3 none) frC_falls loC_falls [.ref (wG w l0 5), .int l1] w A B x none xr := by
  intro x l1 xr hf
  refine t_start (cc := cX2_falls) (own := RX2) (by decide +kernel) rfl (Nat.le_of_ble_eq_true rfl) rfl ?_
  intro p e s m args below meth c ls H locs C hmn hI hl
  have hx := C.1.1
  have hb := C.1.2.1
  have hown := C.1.2.2.2.1
  have hts := C.1.2.2.2.2.1
  have hE := C.2.2
  rw [fC_falls] at hf
  refine lv_aload_n hx hb dX2_falls_0 rfl (lv_at hl 0 rfl) ?_
  refine lv_dup hx hb dX2_falls_1 rfl ?_
  refine tgX2_39 C hI hi_l0 dX2_falls_2 ?_
  refine lv_iconst (v := 1) hx hb dX2_falls_5 (by decide) ?_
  refine lv_iload_n hx hb dX2_falls_6 rfl (lv_at hl 1 rfl) ?_
  refine lv_ishl hx hb dX2_falls_7 ?_
  refine lv_ior hx hb dX2_falls_8 ?_
  refine tpX2_39 C hI hi_l0 dX2_falls_9 (fun H locs hI => ?_)
  refine lv_aload_n hx hb dX2_falls_12 rfl (lv_at hl 0 rfl) ?_
  refine lv_dup hx hb dX2_falls_13 rfl ?_
  refine tgX2_48 C hI hi_l0 dX2_falls_14 ?_
  refine lv_iconst (v := 1) hx hb dX2_falls_17 (by decide) ?_
  refine lv_iadd hx hb dX2_falls_18 ?_
  refine tpX2_48 C hI hi_l0 dX2_falls_19 (fun H locs hI => ?_)
  refine lv_iload_n hx hb dX2_falls_22 rfl (lv_at hl 1 rfl) ?_
  refine lv_iconst (v := 1) hx hb dX2_falls_23 (by decide) ?_
  refine lv_isub hx hb dX2_falls_24 ?_
  refine lv_istore_n (lv' := [(2, .int (l1 - 1)), (0, .ref (wG w l0 5)), (1, .int l1)]) hx hb dX2_falls_25 rfl hl (by decide) rfl (fun ls hl => ?_)
  exact w_fC_falls_b26 C N (sTF (sTF x l0 6 ((tF x l0 6) ||| (1 <<< (l1 &&& 31)))) l0 9 ((tF (sTF x l0 6 ((tF x l0 6) ||| (1 <<< (l1 &&& 31)))) l0 9) + 1)) l0 l1 (l1 - 1) _ _ _ hi_l0 hI (lv_sub hl [1, 2, 0] rfl) hf
/-! TwelveChain$Chain.canPay(I)Z -/
abbrev frC_canPay : Nat := 0
abbrev loC_canPay : Nat := 0
def fC_canPay_b41 (N : Nat) (B : Nat × Nat) (x : TS) (s0 : Int32) (s1 : Int32) (s2 : Int32) : Option (Int32 × TS) :=
  if (s1 + s2) < s0 then
    some (0, x)
  else
    some (1, x)
theorem w_fC_canPay_b41 {N : Nat} {B : Nat × Nat} {r : Int32} {xr : TS} (C : tCx w A p s m args meth c cX2_canPay 2 RX2 (some .boolean)) : ∀ (x : TS) (s0 : Int32) (s1 : Int32) (s2 : Int32) (H : Heap) (locs : List Loc) (ls : Array Slot), tI w A B x s.heap H locs → lv_has ls 2 [] → fC_canPay_b41 N B x s0 s1 s2 = some (r, xr) → W p l e (tRm B frC_canPay loC_canPay s.heap.size (SL s.heap)) s m args below meth c H locs (tZ x - s.heap.size) (tY x - SL s.heap) (MQ below (tQ w A B (some (.int r)) xr) args s (B.1 - s.heap.size) (B.2 - SL s.heap) A) (F0 m 41 ls [.int s2, .int s1, .int s0]) := by
  have hx := C.1.1
  have hb := C.1.2.1
  have hown := C.1.2.2.2.1
  have hts := C.1.2.2.2.2.1
  have hE := C.2.2
  intro x s0 s1 s2 H locs ls hI hl hf
  rw [fC_canPay_b41] at hf
  refine lv_iadd hx hb dX2_canPay_41 ?_
  refine b_icgt (tgt := 49) hx hb hf dX2_canPay_42 (by decide) (fun hf => ?_) (fun hf => ?_)
  · refine lv_iconst (v := 0) hx hb dX2_canPay_49 (by decide) ?_
    exact t_zretc C hI zb_0 hf dX2_canPay_50
  · refine lv_iconst (v := 1) hx hb dX2_canPay_45 (by decide) ?_
    refine lv_goto (tgt := 50) hx hb dX2_canPay_46 (by decide) ?_
    exact t_zretc C hI zb_1 hf dX2_canPay_50
def fC_canPay (N : Nat) (B : Nat × Nat) (x : TS) (l0 : cIx) (l1 : Int32) : Option (Int32 × TS) :=
  if l1 = ((tS x 21) - 1) then
    some (1, x)
  else
    (rd 12 (tC x l0 0) (l1 + 1)).bind fun v1 =>
    (rd 12 (tC x l0 1) l1).bind fun v2 =>
    if l1 ≤ 0 then
      fC_canPay_b41 N B x v1 v2 0
    else
      (rd 12 (tC x l0 0) l1).bind fun v3 =>
      fC_canPay_b41 N B x v1 v2 v3
theorem tmC_canPay (l : Launch) (N : Nat) {w : tO} {A : Nat → Prop} (B : Nat × Nat) {l0 : Nat} (hi_l0 : l0 < wn w) : ∀ (x : TS) (l1 : Int32) (r : Int32) (xr : TS), fC_canPay N B x l0 l1 = some (r, xr) → tMet l yX2_canPay (ws_ yX2_canPay cX2_canPay 2 (some .boolean)) frC_canPay loC_canPay [.ref (wG w l0 5), .int l1] w A B x (some (.int r)) xr := by
  intro x l1 r xr hf
  refine t_start (cc := cX2_canPay) (own := RX2) (by decide +kernel) rfl (Nat.le_of_ble_eq_true rfl) rfl ?_
  intro p e s m args below meth c ls H locs C hmn hI hl
  have hx := C.1.1
  have hb := C.1.2.1
  have hown := C.1.2.2.2.1
  have hts := C.1.2.2.2.2.1
  have hE := C.2.2
  rw [fC_canPay] at hf
  refine lv_iload_n hx hb dX2_canPay_0 rfl (lv_at hl 1 rfl) ?_
  refine lv_aload_n hx hb dX2_canPay_1 rfl (lv_at hl 0 rfl) ?_
  refine tgX2_3 C hI hi_l0 dX2_canPay_2 ?_
  refine tgN_75 C hI dX2_canPay_5 ?_
  refine lv_iconst (v := 1) hx hb dX2_canPay_8 (by decide) ?_
  refine lv_isub hx hb dX2_canPay_9 ?_
  refine b_iceq (tgt := 45) hx hb hf dX2_canPay_10 (by decide) (fun hf => ?_) (fun hf => ?_)
  · refine lv_iconst (v := 1) hx hb dX2_canPay_45 (by decide) ?_
    refine lv_goto (tgt := 50) hx hb dX2_canPay_46 (by decide) ?_
    exact t_zretc C hI zb_1 hf dX2_canPay_50
  · refine lv_aload_n hx hb dX2_canPay_13 rfl (lv_at hl 0 rfl) ?_
    refine tgX2_15 C hI hi_l0 dX2_canPay_14 ?_
    refine lv_iload_n hx hb dX2_canPay_17 rfl (lv_at hl 1 rfl) ?_
    refine lv_iconst (v := 1) hx hb dX2_canPay_18 (by decide) ?_
    refine lv_iadd hx hb dX2_canPay_19 ?_
    refine t_cald C hI hi_l0 (by decide) hf dX2_canPay_20 (fun v1 hf => ?_)
    refine lv_aload_n hx hb dX2_canPay_21 rfl (lv_at hl 0 rfl) ?_
    refine tgX2_19 C hI hi_l0 dX2_canPay_22 ?_
    refine lv_iload_n hx hb dX2_canPay_25 rfl (lv_at hl 1 rfl) ?_
    refine t_cald C hI hi_l0 (by decide) hf dX2_canPay_26 (fun v2 hf => ?_)
    refine lv_iload_n hx hb dX2_canPay_27 rfl (lv_at hl 1 rfl) ?_
    refine b_ifle (tgt := 40) hx hb hf dX2_canPay_28 (by decide) (fun hf => ?_) (fun hf => ?_)
    · refine lv_iconst (v := 0) hx hb dX2_canPay_40 (by decide) ?_
      exact w_fC_canPay_b41 C x v1 v2 0 _ _ _ hI (lv_sub hl [] rfl) hf
    · refine lv_aload_n hx hb dX2_canPay_31 rfl (lv_at hl 0 rfl) ?_
      refine tgX2_15 C hI hi_l0 dX2_canPay_32 ?_
      refine lv_iload_n hx hb dX2_canPay_35 rfl (lv_at hl 1 rfl) ?_
      refine t_cald C hI hi_l0 (by decide) hf dX2_canPay_36 (fun v3 hf => ?_)
      refine lv_goto (tgt := 41) hx hb dX2_canPay_37 (by decide) ?_
      exact w_fC_canPay_b41 C x v1 v2 v3 _ _ _ hI (lv_sub hl [] rfl) hf
/-! TwelveChain$Chain.canMove(II)Z -/
abbrev frC_canMove : Nat := 1
abbrev loC_canMove : Nat := 21
def fC_canMove_b2 (N : Nat) (B : Nat × Nat) : Nat → TS → cIx → Int32 → Int32 → Option (Int32 × TS)
  | 0, _, _, _, _ => none
  | n + 1, x, l0, l2, l3 =>
  if l2 < l3 then
    some (1, x)
  else
    (fT_has N (tF x l0 5) l3).bind fun v1 =>
    if v1 = 0 then
      some (0, x)
    else
      (fT_has N (tF x l0 6) l3).bind fun v2 =>
      if v2 = 0 then
        if l2 ≤ l3 then
          fC_canMove_b2 N B n x l0 l2 (l3 + 1)
        else
          b2 (fC_canPay N B x l0 l3) fun v4 x3 =>
          if v4 = 0 then
            some (0, x3)
          else
            fC_canMove_b2 N B n x3 l0 l2 (l3 + 1)
      else
        some (0, x)
theorem w_fC_canMove_b2 {N : Nat} {B : Nat × Nat} {r : Int32} {xr : TS} (C : tCx w A p s m args meth c cX2_canMove 4 RX2 (some .boolean)) : ∀ (n : Nat) (x : TS) (l0 : cIx) (l2 : Int32) (l3 : Int32) (H : Heap) (locs : List Loc) (ls : Array Slot), l0 < wn w → tI w A B x s.heap H locs → lv_has ls 4 [(0, .ref (wG w l0 5)), (2, .int l2), (3, .int l3)] → fC_canMove_b2 N B n x l0 l2 l3 = some (r, xr) → W p l e (tRm B frC_canMove loC_canMove s.heap.size (SL s.heap)) s m args below meth c H locs (tZ x - s.heap.size) (tY x - SL s.heap) (MQ below (tQ w A B (some (.int r)) xr) args s (B.1 - s.heap.size) (B.2 - SL s.heap) A) (F0 m 2 ls []) := by
  have hx := C.1.1
  have hb := C.1.2.1
  have hown := C.1.2.2.2.1
  have hts := C.1.2.2.2.2.1
  have hE := C.2.2
  intro n
  induction n with
  | zero => intro x l0 l2 l3 H locs ls hi_l0 hI hl hf; rw [fC_canMove_b2] at hf; cases hf
  | succ n ih =>
  intro x l0 l2 l3 H locs ls hi_l0 hI hl hf
  rw [fC_canMove_b2] at hf
  refine lv_iload_n hx hb dX2_canMove_2 rfl (lv_at hl 2 rfl) ?_
  refine lv_iload_n hx hb dX2_canMove_3 rfl (lv_at hl 1 rfl) ?_
  refine b_icgt (tgt := 50) hx hb hf dX2_canMove_4 (by decide) (fun hf => ?_) (fun hf => ?_)
  · refine lv_iconst (v := 1) hx hb dX2_canMove_50 (by decide) ?_
    exact t_zretc C hI zb_1 hf dX2_canMove_51
  · refine lv_aload_n hx hb dX2_canMove_7 rfl (lv_at hl 0 rfl) ?_
    refine tgX2_35 C hI hi_l0 dX2_canMove_8 ?_
    refine lv_iload_n hx hb dX2_canMove_11 rfl (lv_at hl 2 rfl) ?_
    refine g_calliSN (rest := []) C hf (smT_has l N _ _) cn_T_has q888 (List.mem_of_getElem? (i := 6) rfl) ⟨rfl, rfl⟩ ⟨Nat.le_of_ble_eq_true rfl, Nat.le_of_ble_eq_true rfl⟩ rfl hl.1 rfl (Nat.le_of_ble_eq_true rfl) (t_room hI) dX2_canMove_12 (fun v1 hf => ?_)
    refine b_ifeq (tgt := 42) hx hb hf dX2_canMove_15 (by decide) (fun hf => ?_) (fun hf => ?_)
    · refine lv_iconst (v := 0) hx hb dX2_canMove_42 (by decide) ?_
      exact t_zretc C hI zb_0 hf dX2_canMove_43
    · refine lv_aload_n hx hb dX2_canMove_18 rfl (lv_at hl 0 rfl) ?_
      refine tgX2_39 C hI hi_l0 dX2_canMove_19 ?_
      refine lv_iload_n hx hb dX2_canMove_22 rfl (lv_at hl 2 rfl) ?_
      refine g_calliSN (rest := []) C hf (smT_has l N _ _) cn_T_has q888 (List.mem_of_getElem? (i := 6) rfl) ⟨rfl, rfl⟩ ⟨Nat.le_of_ble_eq_true rfl, Nat.le_of_ble_eq_true rfl⟩ rfl hl.1 rfl (Nat.le_of_ble_eq_true rfl) (t_room hI) dX2_canMove_23 (fun v2 hf => ?_)
      refine b_ifne (tgt := 42) hx hb hf dX2_canMove_26 (by decide) (fun hf => ?_) (fun hf => ?_)
      · refine lv_iconst (v := 0) hx hb dX2_canMove_42 (by decide) ?_
        exact t_zretc C hI zb_0 hf dX2_canMove_43
      · refine lv_iload_n hx hb dX2_canMove_29 rfl (lv_at hl 2 rfl) ?_
        refine lv_iload_n hx hb dX2_canMove_30 rfl (lv_at hl 1 rfl) ?_
        refine b_icge (tgt := 44) hx hb hf dX2_canMove_31 (by decide) (fun hf => ?_) (fun hf => ?_)
        · refine lv_iinc (v := l3 + 1) (lv' := [(3, .int (l3 + 1)), (0, .ref (wG w l0 5)), (2, .int l2)]) hx hb dX2_canMove_44 hl (k := 2) rfl rfl (by decide) rfl (fun ls hl => ?_)
          refine lv_goto (tgt := 2) hx hb dX2_canMove_47 (by decide) ?_
          exact ih x l0 l2 (l3 + 1) _ _ _ hi_l0 hI (lv_sub hl [1, 2, 0] rfl) hf
        · refine lv_aload_n hx hb dX2_canMove_34 rfl (lv_at hl 0 rfl) ?_
          refine lv_iload_n hx hb dX2_canMove_35 rfl (lv_at hl 2 rfl) ?_
          refine t_cVi (rest := []) C hI hf (tmC_canPay l N B hi_l0 _ _) (rv_chain C hI hi_l0) cqX2_C_canPay ⟨Nat.le_of_ble_eq_true rfl, Nat.le_of_ble_eq_true rfl⟩ rfl hl.1 rfl (Nat.le_of_ble_eq_true rfl) dX2_canMove_36 (fun v4 x3 H locs hI hf => ?_)
          refine b_ifne (tgt := 44) hx hb hf dX2_canMove_39 (by decide) (fun hf => ?_) (fun hf => ?_)
          · refine lv_iinc (v := l3 + 1) (lv' := [(3, .int (l3 + 1)), (0, .ref (wG w l0 5)), (2, .int l2)]) hx hb dX2_canMove_44 hl (k := 2) rfl rfl (by decide) rfl (fun ls hl => ?_)
            refine lv_goto (tgt := 2) hx hb dX2_canMove_47 (by decide) ?_
            exact ih x3 l0 l2 (l3 + 1) _ _ _ hi_l0 hI (lv_sub hl [1, 2, 0] rfl) hf
          · refine lv_iconst (v := 0) hx hb dX2_canMove_42 (by decide) ?_
            exact t_zretc C hI zb_0 hf dX2_canMove_43
def fC_canMove (N : Nat) (B : Nat × Nat) (x : TS) (l0 : cIx) (l1 : Int32) (l2 : Int32) : Option (Int32 × TS) :=
  fC_canMove_b2 N B N x l0 l2 l1
theorem tmC_canMove (l : Launch) (N : Nat) {w : tO} {A : Nat → Prop} (B : Nat × Nat) {l0 : Nat} (hi_l0 : l0 < wn w) : ∀ (x : TS) (l1 : Int32) (l2 : Int32) (r : Int32) (xr : TS), fC_canMove N B x l0 l1 l2 = some (r, xr) → tMet l yX2_canMove (ws_ yX2_canMove cX2_canMove 4 (some .boolean)) frC_canMove loC_canMove [.ref (wG w l0 5), .int l1, .int l2] w A B x (some (.int r)) xr := by
  intro x l1 l2 r xr hf
  refine t_start (cc := cX2_canMove) (own := RX2) (by decide +kernel) rfl (Nat.le_of_ble_eq_true rfl) rfl ?_
  intro p e s m args below meth c ls H locs C hmn hI hl
  have hx := C.1.1
  have hb := C.1.2.1
  have hown := C.1.2.2.2.1
  have hts := C.1.2.2.2.2.1
  have hE := C.2.2
  rw [fC_canMove] at hf
  refine lv_iload_n hx hb dX2_canMove_0 rfl (lv_at hl 1 rfl) ?_
  refine lv_istore_n (lv' := [(3, .int l1), (0, .ref (wG w l0 5)), (1, .int l1), (2, .int l2)]) hx hb dX2_canMove_1 rfl hl (by decide) rfl (fun ls hl => ?_)
  exact w_fC_canMove_b2 C N x l0 l2 l1 _ _ _ hi_l0 hI (lv_sub hl [1, 3, 0] rfl) hf
/-! TwelveChain$Chain.movesParts()I -/
abbrev frC_movesParts : Nat := 2
abbrev loC_movesParts : Nat := 47
def fC_movesParts_b97 (N : Nat) (B : Nat × Nat) (k4 : TS → cIx → Int32 → Int32 → Option (Int32 × TS)) (k55 : TS → cIx → Int32 → Int32 → Int32 → Int32 → Option (Int32 × TS)) (x : TS) (l0 : cIx) (l1 : Int32) (l2 : Int32) (l3 : Int32) (l4 : Int32) : Option (Int32 × TS) :=
  (wrC x l0 4 l4 (tF x l0 8)).bind fun x1 =>
  (fC_notes N B x1 l0 5 l4 0).bind fun x2 =>
  k55 x2 l0 (l1 + 1) l2 l3 (l4 + 1)
theorem w_fC_movesParts_b97 {N : Nat} {B : Nat × Nat} {r : Int32} {xr : TS} {k4 : TS → cIx → Int32 → Int32 → Option (Int32 × TS)} {k55 : TS → cIx → Int32 → Int32 → Int32 → Int32 → Option (Int32 × TS)} (C : tCx w A p s m args meth c cX2_movesParts 5 RX2 (some .int)) (hk4 : ∀ (x : TS) (l0 : cIx) (l1 : Int32) (l2 : Int32) (H : Heap) (locs : List Loc) (ls : Array Slot), l0 < wn w → tI w A B x s.heap H locs → lv_has ls 5 [(0, .ref (wG w l0 5)), (1, .int l1), (2, .int l2)] → k4 x l0 l1 l2 = some (r, xr) → W p l e (tRm B frC_movesParts loC_movesParts s.heap.size (SL s.heap)) s m args below meth c H locs (tZ x - s.heap.size) (tY x - SL s.heap) (MQ below (tQ w A B (some (.int r)) xr) args s (B.1 - s.heap.size) (B.2 - SL s.heap) A) (F0 m 4 ls [])) (hk55 : ∀ (x : TS) (l0 : cIx) (l1 : Int32) (l2 : Int32) (l3 : Int32) (l4 : Int32) (H : Heap) (locs : List Loc) (ls : Array Slot), l0 < wn w → tI w A B x s.heap H locs → lv_has ls 5 [(0, .ref (wG w l0 5)), (1, .int l1), (2, .int l2), (3, .int l3), (4, .int l4)] → k55 x l0 l1 l2 l3 l4 = some (r, xr) → W p l e (tRm B frC_movesParts loC_movesParts s.heap.size (SL s.heap)) s m args below meth c H locs (tZ x - s.heap.size) (tY x - SL s.heap) (MQ below (tQ w A B (some (.int r)) xr) args s (B.1 - s.heap.size) (B.2 - SL s.heap) A) (F0 m 55 ls [])) : ∀ (x : TS) (l0 : cIx) (l1 : Int32) (l2 : Int32) (l3 : Int32) (l4 : Int32) (H : Heap) (locs : List Loc) (ls : Array Slot), l0 < wn w → tI w A B x s.heap H locs → lv_has ls 5 [(0, .ref (wG w l0 5)), (1, .int l1), (2, .int l2), (3, .int l3), (4, .int l4)] → fC_movesParts_b97 N B k4 k55 x l0 l1 l2 l3 l4 = some (r, xr) → W p l e (tRm B frC_movesParts loC_movesParts s.heap.size (SL s.heap)) s m args below meth c H locs (tZ x - s.heap.size) (tY x - SL s.heap) (MQ below (tQ w A B (some (.int r)) xr) args s (B.1 - s.heap.size) (B.2 - SL s.heap) A) (F0 m 97 ls []) := by
  have hx := C.1.1
  have hb := C.1.2.1
  have hown := C.1.2.2.2.1
  have hts := C.1.2.2.2.2.1
  have hE := C.2.2
  intro x l0 l1 l2 l3 l4 H locs ls hi_l0 hI hl hf
  rw [fC_movesParts_b97] at hf
  refine lv_aload_n hx hb dX2_movesParts_97 rfl (lv_at hl 0 rfl) ?_
  refine tgX2_28 C hI hi_l0 dX2_movesParts_98 ?_
  refine lv_iload hx hb dX2_movesParts_101 (lv_at hl 4 rfl) ?_
  refine lv_aload_n hx hb dX2_movesParts_103 rfl (lv_at hl 0 rfl) ?_
  refine tgX2_45 C hI hi_l0 dX2_movesParts_104 ?_
  refine t_cast C hI hi_l0 (by decide) hf dX2_movesParts_107 (fun x1 H locs hI hf => ?_)
  refine lv_aload_n hx hb dX2_movesParts_108 rfl (lv_at hl 0 rfl) ?_
  refine lv_iconst (v := 5) hx hb dX2_movesParts_109 (by decide) ?_
  refine lv_iload hx hb dX2_movesParts_110 (lv_at hl 4 rfl) ?_
  refine lv_iconst (v := 0) hx hb dX2_movesParts_112 (by decide) ?_
  refine t_cVv (rest := []) C hI hf (tmC_notes l N B hi_l0 _ _ _ _) (rv_chain C hI hi_l0) cqX2_C_notes ⟨Nat.le_of_ble_eq_true rfl, Nat.le_of_ble_eq_true rfl⟩ rfl hl.1 rfl (Nat.le_of_ble_eq_true rfl) dX2_movesParts_113 (fun x2 H locs hI hf => ?_)
  refine lv_iinc (v := l1 + 1) (lv' := [(1, .int (l1 + 1)), (0, .ref (wG w l0 5)), (2, .int l2), (3, .int l3), (4, .int l4)]) hx hb dX2_movesParts_116 hl (k := 1) rfl rfl (by decide) rfl (fun ls hl => ?_)
  refine lv_iinc (v := l4 + 1) (lv' := [(4, .int (l4 + 1)), (1, .int (l1 + 1)), (0, .ref (wG w l0 5)), (2, .int l2), (3, .int l3)]) hx hb dX2_movesParts_119 hl (k := 4) rfl rfl (by decide) rfl (fun ls hl => ?_)
  refine lv_goto (tgt := 55) hx hb dX2_movesParts_122 (by decide) ?_
  exact hk55 x2 l0 (l1 + 1) l2 l3 (l4 + 1) _ _ _ hi_l0 hI (lv_sub hl [2, 1, 3, 4, 0] rfl) hf
def fC_movesParts_b55 (N : Nat) (B : Nat × Nat) (k4 : TS → cIx → Int32 → Int32 → Option (Int32 × TS)) : Nat → TS → cIx → Int32 → Int32 → Int32 → Int32 → Option (Int32 × TS)
  | 0, _, _, _, _, _, _ => none
  | n + 1, x, l0, l1, l2, l3, l4 =>
  if l3 < l4 then
    k4 x l0 l1 (l2 + 1)
  else
    b2 (fC_isMoved N B x l0 l4) fun v2 x1 =>
    if v2 = 0 then
      if l4 = l3 then
        if l4 ≤ l2 then
          fC_movesParts_b97 N B k4 (fC_movesParts_b55 N B k4 n) x1 l0 l1 l2 l3 l4
        else
          (fT_has N (tF x1 l0 7) l4).bind fun v3 =>
          if v3 = 0 then
            fC_movesParts_b97 N B k4 (fC_movesParts_b55 N B k4 n) x1 l0 l1 l2 l3 l4
          else
            fC_movesParts_b55 N B k4 n x1 l0 l1 l2 l3 (l4 + 1)
      else
        fC_movesParts_b97 N B k4 (fC_movesParts_b55 N B k4 n) x1 l0 l1 l2 l3 l4
    else
      fC_movesParts_b55 N B k4 n x1 l0 l1 l2 l3 (l4 + 1)
theorem w_fC_movesParts_b55 {N : Nat} {B : Nat × Nat} {r : Int32} {xr : TS} {k4 : TS → cIx → Int32 → Int32 → Option (Int32 × TS)} (C : tCx w A p s m args meth c cX2_movesParts 5 RX2 (some .int)) (hk4 : ∀ (x : TS) (l0 : cIx) (l1 : Int32) (l2 : Int32) (H : Heap) (locs : List Loc) (ls : Array Slot), l0 < wn w → tI w A B x s.heap H locs → lv_has ls 5 [(0, .ref (wG w l0 5)), (1, .int l1), (2, .int l2)] → k4 x l0 l1 l2 = some (r, xr) → W p l e (tRm B frC_movesParts loC_movesParts s.heap.size (SL s.heap)) s m args below meth c H locs (tZ x - s.heap.size) (tY x - SL s.heap) (MQ below (tQ w A B (some (.int r)) xr) args s (B.1 - s.heap.size) (B.2 - SL s.heap) A) (F0 m 4 ls [])) : ∀ (n : Nat) (x : TS) (l0 : cIx) (l1 : Int32) (l2 : Int32) (l3 : Int32) (l4 : Int32) (H : Heap) (locs : List Loc) (ls : Array Slot), l0 < wn w → tI w A B x s.heap H locs → lv_has ls 5 [(0, .ref (wG w l0 5)), (1, .int l1), (2, .int l2), (3, .int l3), (4, .int l4)] → fC_movesParts_b55 N B k4 n x l0 l1 l2 l3 l4 = some (r, xr) → W p l e (tRm B frC_movesParts loC_movesParts s.heap.size (SL s.heap)) s m args below meth c H locs (tZ x - s.heap.size) (tY x - SL s.heap) (MQ below (tQ w A B (some (.int r)) xr) args s (B.1 - s.heap.size) (B.2 - SL s.heap) A) (F0 m 55 ls []) := by
  have hx := C.1.1
  have hb := C.1.2.1
  have hown := C.1.2.2.2.1
  have hts := C.1.2.2.2.2.1
  have hE := C.2.2
  intro n
  induction n with
  | zero => intro x l0 l1 l2 l3 l4 H locs ls hi_l0 hI hl hf; rw [fC_movesParts_b55] at hf; cases hf
  | succ n ih =>
  intro x l0 l1 l2 l3 l4 H locs ls hi_l0 hI hl hf
  rw [fC_movesParts_b55] at hf
  refine lv_iload hx hb dX2_movesParts_55 (lv_at hl 4 rfl) ?_
  refine lv_iload_n hx hb dX2_movesParts_57 rfl (lv_at hl 3 rfl) ?_
  refine b_icgt (tgt := 125) hx hb hf dX2_movesParts_58 (by decide) (fun hf => ?_) (fun hf => ?_)
  · refine lv_iinc (v := l2 + 1) (lv' := [(2, .int (l2 + 1)), (0, .ref (wG w l0 5)), (1, .int l1), (3, .int l3), (4, .int l4)]) hx hb dX2_movesParts_125 hl (k := 2) rfl rfl (by decide) rfl (fun ls hl => ?_)
    refine lv_goto (tgt := 4) hx hb dX2_movesParts_128 (by decide) ?_
    exact hk4 x l0 l1 (l2 + 1) _ _ _ hi_l0 hI (lv_sub hl [1, 2, 0] rfl) hf
  · refine lv_aload_n hx hb dX2_movesParts_61 rfl (lv_at hl 0 rfl) ?_
    refine lv_iload hx hb dX2_movesParts_62 (lv_at hl 4 rfl) ?_
    refine t_cVi (rest := []) C hI hf (tmC_isMoved l N B hi_l0 _ _) (rv_chain C hI hi_l0) cqX2_C_isMoved ⟨Nat.le_of_ble_eq_true rfl, Nat.le_of_ble_eq_true rfl⟩ rfl hl.1 rfl (Nat.le_of_ble_eq_true rfl) dX2_movesParts_64 (fun v2 x1 H locs hI hf => ?_)
    refine b_ifne (tgt := 119) hx hb hf dX2_movesParts_67 (by decide) (fun hf => ?_) (fun hf => ?_)
    · refine lv_iinc (v := l4 + 1) (lv' := [(4, .int (l4 + 1)), (0, .ref (wG w l0 5)), (1, .int l1), (2, .int l2), (3, .int l3)]) hx hb dX2_movesParts_119 hl (k := 4) rfl rfl (by decide) rfl (fun ls hl => ?_)
      refine lv_goto (tgt := 55) hx hb dX2_movesParts_122 (by decide) ?_
      exact ih x1 l0 l1 l2 l3 (l4 + 1) _ _ _ hi_l0 hI (lv_sub hl [1, 2, 3, 4, 0] rfl) hf
    · refine lv_iload hx hb dX2_movesParts_70 (lv_at hl 4 rfl) ?_
      refine lv_iload_n hx hb dX2_movesParts_72 rfl (lv_at hl 3 rfl) ?_
      refine b_icne (tgt := 97) hx hb hf dX2_movesParts_73 (by decide) (fun hf => ?_) (fun hf => ?_)
      · exact w_fC_movesParts_b97 C hk4 ih x1 l0 l1 l2 l3 l4 _ _ _ hi_l0 hI (lv_sub hl [0, 1, 2, 3, 4] rfl) hf
      · refine lv_iload hx hb dX2_movesParts_76 (lv_at hl 4 rfl) ?_
        refine lv_iload_n hx hb dX2_movesParts_78 rfl (lv_at hl 2 rfl) ?_
        refine b_icle (tgt := 97) hx hb hf dX2_movesParts_79 (by decide) (fun hf => ?_) (fun hf => ?_)
        · exact w_fC_movesParts_b97 C hk4 ih x1 l0 l1 l2 l3 l4 _ _ _ hi_l0 hI (lv_sub hl [0, 1, 2, 3, 4] rfl) hf
        · refine lv_aload_n hx hb dX2_movesParts_82 rfl (lv_at hl 0 rfl) ?_
          refine tgX2_42 C hI hi_l0 dX2_movesParts_83 ?_
          refine lv_iload hx hb dX2_movesParts_86 (lv_at hl 4 rfl) ?_
          refine g_calliSN (rest := []) C hf (smT_has l N _ _) cn_T_has q888 (List.mem_of_getElem? (i := 6) rfl) ⟨rfl, rfl⟩ ⟨Nat.le_of_ble_eq_true rfl, Nat.le_of_ble_eq_true rfl⟩ rfl hl.1 rfl (Nat.le_of_ble_eq_true rfl) (t_room hI) dX2_movesParts_88 (fun v3 hf => ?_)
          refine b_ifeq (tgt := 97) hx hb hf dX2_movesParts_91 (by decide) (fun hf => ?_) (fun hf => ?_)
          · exact w_fC_movesParts_b97 C hk4 ih x1 l0 l1 l2 l3 l4 _ _ _ hi_l0 hI (lv_sub hl [0, 1, 2, 3, 4] rfl) hf
          · refine lv_goto (tgt := 119) hx hb dX2_movesParts_94 (by decide) ?_
            refine lv_iinc (v := l4 + 1) (lv' := [(4, .int (l4 + 1)), (0, .ref (wG w l0 5)), (1, .int l1), (2, .int l2), (3, .int l3)]) hx hb dX2_movesParts_119 hl (k := 4) rfl rfl (by decide) rfl (fun ls hl => ?_)
            refine lv_goto (tgt := 55) hx hb dX2_movesParts_122 (by decide) ?_
            exact ih x1 l0 l1 l2 l3 (l4 + 1) _ _ _ hi_l0 hI (lv_sub hl [1, 2, 3, 4, 0] rfl) hf
def fC_movesParts_b4 (N : Nat) (B : Nat × Nat) : Nat → TS → cIx → Int32 → Int32 → Option (Int32 × TS)
  | 0, _, _, _, _ => none
  | n + 1, x, l0, l1, l2 =>
  if (tS x 21) ≤ l2 then
    some (l1, x)
  else
    b2 (fC_beginsPart N B x l0 l2 (tF x l0 7)) fun v2 x1 =>
    if v2 = 0 then
      fC_movesParts_b4 N B n x1 l0 l1 (l2 + 1)
    else
      b2 (fC_endOf N B x1 l0 l2 (tF x1 l0 7)) fun v4 x3 =>
      b2 (fC_canMove N B x3 l0 l2 v4) fun v6 x5 =>
      if v6 = 0 then
        fC_movesParts_b4 N B n x5 l0 l1 (l2 + 1)
      else
        fC_movesParts_b55 N B (fC_movesParts_b4 N B n) N x5 l0 l1 l2 v4 l2
theorem w_fC_movesParts_b4 {N : Nat} {B : Nat × Nat} {r : Int32} {xr : TS} (C : tCx w A p s m args meth c cX2_movesParts 5 RX2 (some .int)) : ∀ (n : Nat) (x : TS) (l0 : cIx) (l1 : Int32) (l2 : Int32) (H : Heap) (locs : List Loc) (ls : Array Slot), l0 < wn w → tI w A B x s.heap H locs → lv_has ls 5 [(0, .ref (wG w l0 5)), (1, .int l1), (2, .int l2)] → fC_movesParts_b4 N B n x l0 l1 l2 = some (r, xr) → W p l e (tRm B frC_movesParts loC_movesParts s.heap.size (SL s.heap)) s m args below meth c H locs (tZ x - s.heap.size) (tY x - SL s.heap) (MQ below (tQ w A B (some (.int r)) xr) args s (B.1 - s.heap.size) (B.2 - SL s.heap) A) (F0 m 4 ls []) := by
  have hx := C.1.1
  have hb := C.1.2.1
  have hown := C.1.2.2.2.1
  have hts := C.1.2.2.2.2.1
  have hE := C.2.2
  intro n
  induction n with
  | zero => intro x l0 l1 l2 H locs ls hi_l0 hI hl hf; rw [fC_movesParts_b4] at hf; cases hf
  | succ n ih =>
  intro x l0 l1 l2 H locs ls hi_l0 hI hl hf
  rw [fC_movesParts_b4] at hf
  refine lv_iload_n hx hb dX2_movesParts_4 rfl (lv_at hl 2 rfl) ?_
  refine lv_aload_n hx hb dX2_movesParts_5 rfl (lv_at hl 0 rfl) ?_
  refine tgX2_3 C hI hi_l0 dX2_movesParts_6 ?_
  refine tgN_75 C hI dX2_movesParts_9 ?_
  refine b_icge (tgt := 131) hx hb hf dX2_movesParts_12 (by decide) (fun hf => ?_) (fun hf => ?_)
  · refine lv_iload_n hx hb dX2_movesParts_131 rfl (lv_at hl 1 rfl) ?_
    exact t_iret C hI hf dX2_movesParts_132
  · refine lv_aload_n hx hb dX2_movesParts_15 rfl (lv_at hl 0 rfl) ?_
    refine lv_iload_n hx hb dX2_movesParts_16 rfl (lv_at hl 2 rfl) ?_
    refine lv_aload_n hx hb dX2_movesParts_17 rfl (lv_at hl 0 rfl) ?_
    refine tgX2_42 C hI hi_l0 dX2_movesParts_18 ?_
    refine t_cVi (rest := []) C hI hf (tmC_beginsPart l N B hi_l0 _ _ _) (rv_chain C hI hi_l0) cqX2_C_beginsPart ⟨Nat.le_of_ble_eq_true rfl, Nat.le_of_ble_eq_true rfl⟩ rfl hl.1 rfl (Nat.le_of_ble_eq_true rfl) dX2_movesParts_21 (fun v2 x1 H locs hI hf => ?_)
    refine b_ifne (tgt := 30) hx hb hf dX2_movesParts_24 (by decide) (fun hf => ?_) (fun hf => ?_)
    · refine lv_aload_n hx hb dX2_movesParts_30 rfl (lv_at hl 0 rfl) ?_
      refine lv_iload_n hx hb dX2_movesParts_31 rfl (lv_at hl 2 rfl) ?_
      refine lv_aload_n hx hb dX2_movesParts_32 rfl (lv_at hl 0 rfl) ?_
      refine tgX2_42 C hI hi_l0 dX2_movesParts_33 ?_
      refine t_cVi (rest := []) C hI hf (tmC_endOf l N B hi_l0 _ _ _) (rv_chain C hI hi_l0) cqX2_C_endOf ⟨Nat.le_of_ble_eq_true rfl, Nat.le_of_ble_eq_true rfl⟩ rfl hl.1 rfl (Nat.le_of_ble_eq_true rfl) dX2_movesParts_36 (fun v4 x3 H locs hI hf => ?_)
      refine lv_istore_n (lv' := [(3, .int v4), (0, .ref (wG w l0 5)), (1, .int l1), (2, .int l2)]) hx hb dX2_movesParts_39 rfl hl (by decide) rfl (fun ls hl => ?_)
      refine lv_aload_n hx hb dX2_movesParts_40 rfl (lv_at hl 1 rfl) ?_
      refine lv_iload_n hx hb dX2_movesParts_41 rfl (lv_at hl 3 rfl) ?_
      refine lv_iload_n hx hb dX2_movesParts_42 rfl (lv_at hl 0 rfl) ?_
      refine t_cVi (rest := []) C hI hf (tmC_canMove l N B hi_l0 _ _ _) (rv_chain C hI hi_l0) cqX2_C_canMove ⟨Nat.le_of_ble_eq_true rfl, Nat.le_of_ble_eq_true rfl⟩ rfl hl.1 rfl (Nat.le_of_ble_eq_true rfl) dX2_movesParts_43 (fun v6 x5 H locs hI hf => ?_)
      refine b_ifne (tgt := 52) hx hb hf dX2_movesParts_46 (by decide) (fun hf => ?_) (fun hf => ?_)
      · refine lv_iload_n hx hb dX2_movesParts_52 rfl (lv_at hl 3 rfl) ?_
        refine lv_istore (lv' := [(4, .int l2), (3, .int v4), (0, .ref (wG w l0 5)), (1, .int l1), (2, .int l2)]) hx hb dX2_movesParts_53 hl (by decide) rfl (fun ls hl => ?_)
        exact w_fC_movesParts_b55 C ih N x5 l0 l1 l2 v4 l2 _ _ _ hi_l0 hI (lv_sub hl [2, 3, 4, 1, 0] rfl) hf
      · refine lv_goto (tgt := 125) hx hb dX2_movesParts_49 (by decide) ?_
        refine lv_iinc (v := l2 + 1) (lv' := [(2, .int (l2 + 1)), (3, .int v4), (0, .ref (wG w l0 5)), (1, .int l1)]) hx hb dX2_movesParts_125 hl (k := 3) rfl rfl (by decide) rfl (fun ls hl => ?_)
        refine lv_goto (tgt := 4) hx hb dX2_movesParts_128 (by decide) ?_
        exact ih x5 l0 l1 (l2 + 1) _ _ _ hi_l0 hI (lv_sub hl [2, 3, 0] rfl) hf
    · refine lv_goto (tgt := 125) hx hb dX2_movesParts_27 (by decide) ?_
      refine lv_iinc (v := l2 + 1) (lv' := [(2, .int (l2 + 1)), (0, .ref (wG w l0 5)), (1, .int l1)]) hx hb dX2_movesParts_125 hl (k := 2) rfl rfl (by decide) rfl (fun ls hl => ?_)
      refine lv_goto (tgt := 4) hx hb dX2_movesParts_128 (by decide) ?_
      exact ih x1 l0 l1 (l2 + 1) _ _ _ hi_l0 hI (lv_sub hl [1, 2, 0] rfl) hf
def fC_movesParts (N : Nat) (B : Nat × Nat) (x : TS) (l0 : cIx) : Option (Int32 × TS) :=
  fC_movesParts_b4 N B N x l0 0 0
theorem tmC_movesParts (l : Launch) (N : Nat) {w : tO} {A : Nat → Prop} (B : Nat × Nat) {l0 : Nat} (hi_l0 : l0 < wn w) : ∀ (x : TS) (r : Int32) (xr : TS), fC_movesParts N B x l0 = some (r, xr) → tMet l yX2_movesParts (ws_ yX2_movesParts cX2_movesParts 5 (some .int)) frC_movesParts loC_movesParts [.ref (wG w l0 5)] w A B x (some (.int r)) xr := by
  intro x  r xr hf
  refine t_start (cc := cX2_movesParts) (own := RX2) (by decide +kernel) rfl (Nat.le_of_ble_eq_true rfl) rfl ?_
  intro p e s m args below meth c ls H locs C hmn hI hl
  have hx := C.1.1
  have hb := C.1.2.1
  have hown := C.1.2.2.2.1
  have hts := C.1.2.2.2.2.1
  have hE := C.2.2
  rw [fC_movesParts] at hf
  refine lv_iconst (v := 0) hx hb dX2_movesParts_0 (by decide) ?_
  refine lv_istore_n (lv' := [(1, .int 0), (0, .ref (wG w l0 5))]) hx hb dX2_movesParts_1 rfl hl (by decide) rfl (fun ls hl => ?_)
  refine lv_iconst (v := 0) hx hb dX2_movesParts_2 (by decide) ?_
  refine lv_istore_n (lv' := [(2, .int 0), (1, .int 0), (0, .ref (wG w l0 5))]) hx hb dX2_movesParts_3 rfl hl (by decide) rfl (fun ls hl => ?_)
  exact w_fC_movesParts_b4 C N x l0 0 0 _ _ _ hi_l0 hI (lv_sub hl [2, 1, 0] rfl) hf
/-! TwelveChain$Deed.day()I -/
abbrev frDe_day : Nat := 0
abbrev loDe_day : Nat := 0
def fDe_day (N : Nat) (B : Nat × Nat) (x : TS) (l0 : Nat) : Option (Int32 × TS) :=
  (dgI x l0 11 0).bind fun v1 =>
  some (v1, x)
theorem tmDe_day (l : Launch) (N : Nat) {w : tO} {A : Nat → Prop} (B : Nat × Nat) : ∀ (x : TS) (l0 : Nat) (r : Int32) (xr : TS), fDe_day N B x l0 = some (r, xr) → tMet l yX12_day (ws_ yX12_day cX12_day 1 (some .int)) frDe_day loDe_day [.ref l0] w A B x (some (.int r)) xr := by
  intro x l0 r xr hf
  refine t_start (cc := cX12_day) (own := RX12) (by decide +kernel) rfl (Nat.le_of_ble_eq_true rfl) rfl ?_
  intro p e s m args below meth c ls H locs C hmn hI hl
  have hx := C.1.1
  have hb := C.1.2.1
  have hown := C.1.2.2.2.1
  have hts := C.1.2.2.2.2.1
  have hE := C.2.2
  rw [fDe_day] at hf
  refine lv_aload_n hx hb dX12_day_0 rfl (lv_at hl 0 rfl) ?_
  refine tgX12_7 C hI hf dX12_day_1 (fun v1 hf => ?_)
  exact t_iret C hI hf dX12_day_4
/-! TwelveChain$Phone.from()I -/
abbrev frPh_from : Nat := 0
abbrev loPh_from : Nat := 0
def fPh_from (N : Nat) (B : Nat × Nat) (x : TS) (l0 : Nat) : Option (Int32 × TS) :=
  (dgI x l0 9 1).bind fun v1 =>
  some (v1, x)
theorem tmPh_from (l : Launch) (N : Nat) {w : tO} {A : Nat → Prop} (B : Nat × Nat) : ∀ (x : TS) (l0 : Nat) (r : Int32) (xr : TS), fPh_from N B x l0 = some (r, xr) → tMet l yX10_from (ws_ yX10_from cX10_from 1 (some .int)) frPh_from loPh_from [.ref l0] w A B x (some (.int r)) xr := by
  intro x l0 r xr hf
  refine t_start (cc := cX10_from) (own := RX10) (by decide +kernel) rfl (Nat.le_of_ble_eq_true rfl) rfl ?_
  intro p e s m args below meth c ls H locs C hmn hI hl
  have hx := C.1.1
  have hb := C.1.2.1
  have hown := C.1.2.2.2.1
  have hts := C.1.2.2.2.2.1
  have hE := C.2.2
  rw [fPh_from] at hf
  refine lv_aload_n hx hb dX10_from_0 rfl (lv_at hl 0 rfl) ?_
  refine tgX10_13 C hI hf dX10_from_1 (fun v1 hf => ?_)
  exact t_iret C hI hf dX10_from_4
/-! TwelveChain$Phone.link()I -/
abbrev frPh_link : Nat := 0
abbrev loPh_link : Nat := 0
def fPh_link (N : Nat) (B : Nat × Nat) (x : TS) (l0 : Nat) : Option (Int32 × TS) :=
  (dgI x l0 9 0).bind fun v1 =>
  some (v1, x)
theorem tmPh_link (l : Launch) (N : Nat) {w : tO} {A : Nat → Prop} (B : Nat × Nat) : ∀ (x : TS) (l0 : Nat) (r : Int32) (xr : TS), fPh_link N B x l0 = some (r, xr) → tMet l yX10_link (ws_ yX10_link cX10_link 1 (some .int)) frPh_link loPh_link [.ref l0] w A B x (some (.int r)) xr := by
  intro x l0 r xr hf
  refine t_start (cc := cX10_link) (own := RX10) (by decide +kernel) rfl (Nat.le_of_ble_eq_true rfl) rfl ?_
  intro p e s m args below meth c ls H locs C hmn hI hl
  have hx := C.1.1
  have hb := C.1.2.1
  have hown := C.1.2.2.2.1
  have hts := C.1.2.2.2.2.1
  have hE := C.2.2
  rw [fPh_link] at hf
  refine lv_aload_n hx hb dX10_link_0 rfl (lv_at hl 0 rfl) ?_
  refine tgX10_7 C hI hf dX10_link_1 (fun v1 hf => ?_)
  exact t_iret C hI hf dX10_link_4
/-! TwelveChain$Phone.to()I -/
abbrev frPh_to : Nat := 0
abbrev loPh_to : Nat := 0
def fPh_to (N : Nat) (B : Nat × Nat) (x : TS) (l0 : Nat) : Option (Int32 × TS) :=
  (dgI x l0 9 2).bind fun v1 =>
  some (v1, x)
theorem tmPh_to (l : Launch) (N : Nat) {w : tO} {A : Nat → Prop} (B : Nat × Nat) : ∀ (x : TS) (l0 : Nat) (r : Int32) (xr : TS), fPh_to N B x l0 = some (r, xr) → tMet l yX10_to (ws_ yX10_to cX10_to 1 (some .int)) frPh_to loPh_to [.ref l0] w A B x (some (.int r)) xr := by
  intro x l0 r xr hf
  refine t_start (cc := cX10_to) (own := RX10) (by decide +kernel) rfl (Nat.le_of_ble_eq_true rfl) rfl ?_
  intro p e s m args below meth c ls H locs C hmn hI hl
  have hx := C.1.1
  have hb := C.1.2.1
  have hown := C.1.2.2.2.1
  have hts := C.1.2.2.2.2.1
  have hE := C.2.2
  rw [fPh_to] at hf
  refine lv_aload_n hx hb dX10_to_0 rfl (lv_at hl 0 rfl) ?_
  refine tgX10_16 C hI hf dX10_to_1 (fun v1 hf => ?_)
  exact t_iret C hI hf dX10_to_4
/-! TwelveChain.phoneOf(IZ)I -/
abbrev frT_phoneOf : Nat := 1
abbrev loT_phoneOf : Nat := 20
def fT_phoneOf_b15 (N : Nat) (B : Nat × Nat) : Nat → TS → Int32 → Int32 → Int32 → Int32 → Option (Int32 × TS)
  | 0, _, _, _, _, _ => none
  | n + 1, x, l1, l2, l3, l4 =>
  (tR x 19).bind fun q1 =>
  (dlR x q1 6).bind fun v2 =>
  if v2 ≤ l4 then
    some (l3, x)
  else
    (tR x 19).bind fun q3 =>
    (dRg x q3 6 l4).bind fun o4 =>
    o4.bind fun q5 =>
    b2 (gO x q5 9 (fPh_link N B x q5)) fun v7 x6 =>
    if v7 = l1 then
      if l2 = 0 then
        (tR x6 19).bind fun q8 =>
        (dRg x6 q8 6 l4).bind fun o9 =>
        o9.bind fun q10 =>
        b2 (gO x6 q10 9 (fPh_from N B x6 q10)) fun v12 x11 =>
        fT_phoneOf_b15 N B n x11 l1 l2 v12 (l4 + 1)
      else
        (tR x6 19).bind fun q13 =>
        (dRg x6 q13 6 l4).bind fun o14 =>
        o14.bind fun q15 =>
        b2 (gO x6 q15 9 (fPh_to N B x6 q15)) fun v17 x16 =>
        fT_phoneOf_b15 N B n x16 l1 l2 v17 (l4 + 1)
    else
      fT_phoneOf_b15 N B n x6 l1 l2 l3 (l4 + 1)
theorem w_fT_phoneOf_b15 {N : Nat} {B : Nat × Nat} {r : Int32} {xr : TS} (C : tCx w A p s m args meth c cX0_phoneOf 5 RX0 (some .int)) : ∀ (n : Nat) (x : TS) (l1 : Int32) (l2 : Int32) (l3 : Int32) (l4 : Int32) (H : Heap) (locs : List Loc) (ls : Array Slot), tI w A B x s.heap H locs → lv_has ls 5 [(0, .ref (wa w 37)), (1, .int l1), (2, .int l2), (3, .int l3), (4, .int l4)] → fT_phoneOf_b15 N B n x l1 l2 l3 l4 = some (r, xr) → W p l e (tRm B frT_phoneOf loT_phoneOf s.heap.size (SL s.heap)) s m args below meth c H locs (tZ x - s.heap.size) (tY x - SL s.heap) (MQ below (tQ w A B (some (.int r)) xr) args s (B.1 - s.heap.size) (B.2 - SL s.heap) A) (F0 m 15 ls []) := by
  have hx := C.1.1
  have hb := C.1.2.1
  have hown := C.1.2.2.2.1
  have hts := C.1.2.2.2.2.1
  have hE := C.2.2
  intro n
  induction n with
  | zero => intro x l1 l2 l3 l4 H locs ls hI hl hf; rw [fT_phoneOf_b15] at hf; cases hf
  | succ n ih =>
  intro x l1 l2 l3 l4 H locs ls hI hl hf
  rw [fT_phoneOf_b15] at hf
  refine lv_iload hx hb dX0_phoneOf_15 (lv_at hl 4 rfl) ?_
  refine lv_aload_n hx hb dX0_phoneOf_17 rfl (lv_at hl 0 rfl) ?_
  refine tgX0_137 C hI dX0_phoneOf_18 ?_
  refine t_nn (g := F0 m 21 ls) hf (fun q1 _ hf => ?_)
  refine t_dlen (code := 6) C hI hf rfl dX0_phoneOf_21 (fun v2 hf => ?_)
  refine b_icge (tgt := 73) hx hb hf dX0_phoneOf_22 (by decide) (fun hf => ?_) (fun hf => ?_)
  · refine lv_iload_n hx hb dX0_phoneOf_73 rfl (lv_at hl 3 rfl) ?_
    exact t_iret C hI hf dX0_phoneOf_74
  · refine lv_aload_n hx hb dX0_phoneOf_25 rfl (lv_at hl 0 rfl) ?_
    refine tgX0_137 C hI dX0_phoneOf_26 ?_
    refine t_nn (g := F0 m 29 ls) hf (fun q3 _ hf => ?_)
    refine lv_iload hx hb dX0_phoneOf_29 (lv_at hl 4 rfl) ?_
    refine t_daldR (code := 6) C hI hf rfl dX0_phoneOf_31 (fun o4 hf => ?_)
    refine t_nn (g := F0 m 32 ls) hf (fun q5 _ hf => ?_)
    refine t_cOi (rest := []) C hI hf (tmPh_link l N B _ _) rfl cqX0_Ph_link ⟨Nat.le_of_ble_eq_true rfl, Nat.le_of_ble_eq_true rfl⟩ rfl hl.1 rfl (Nat.le_of_ble_eq_true rfl) dX0_phoneOf_32 (fun v7 x6 H locs hI hf => ?_)
    refine lv_iload_n hx hb dX0_phoneOf_35 rfl (lv_at hl 1 rfl) ?_
    refine b_icne (tgt := 67) hx hb hf dX0_phoneOf_36 (by decide) (fun hf => ?_) (fun hf => ?_)
    · refine lv_iinc (v := l4 + 1) (lv' := [(4, .int (l4 + 1)), (0, .ref (wa w 37)), (1, .int l1), (2, .int l2), (3, .int l3)]) hx hb dX0_phoneOf_67 hl (k := 4) rfl rfl (by decide) rfl (fun ls hl => ?_)
      refine lv_goto (tgt := 15) hx hb dX0_phoneOf_70 (by decide) ?_
      exact ih x6 l1 l2 l3 (l4 + 1) _ _ _ hI (lv_sub hl [1, 2, 3, 4, 0] rfl) hf
    · refine lv_iload_n hx hb dX0_phoneOf_39 rfl (lv_at hl 2 rfl) ?_
      refine b_ifeq (tgt := 56) hx hb hf dX0_phoneOf_40 (by decide) (fun hf => ?_) (fun hf => ?_)
      · refine lv_aload_n hx hb dX0_phoneOf_56 rfl (lv_at hl 0 rfl) ?_
        refine tgX0_137 C hI dX0_phoneOf_57 ?_
        refine t_nn (g := F0 m 60 ls) hf (fun q8 _ hf => ?_)
        refine lv_iload hx hb dX0_phoneOf_60 (lv_at hl 4 rfl) ?_
        refine t_daldR (code := 6) C hI hf rfl dX0_phoneOf_62 (fun o9 hf => ?_)
        refine t_nn (g := F0 m 63 ls) hf (fun q10 _ hf => ?_)
        refine t_cOi (rest := []) C hI hf (tmPh_from l N B _ _) rfl cqX0_Ph_from ⟨Nat.le_of_ble_eq_true rfl, Nat.le_of_ble_eq_true rfl⟩ rfl hl.1 rfl (Nat.le_of_ble_eq_true rfl) dX0_phoneOf_63 (fun v12 x11 H locs hI hf => ?_)
        refine lv_istore_n (lv' := [(3, .int v12), (0, .ref (wa w 37)), (1, .int l1), (2, .int l2), (4, .int l4)]) hx hb dX0_phoneOf_66 rfl hl (by decide) rfl (fun ls hl => ?_)
        refine lv_iinc (v := l4 + 1) (lv' := [(4, .int (l4 + 1)), (3, .int v12), (0, .ref (wa w 37)), (1, .int l1), (2, .int l2)]) hx hb dX0_phoneOf_67 hl (k := 4) rfl rfl (by decide) rfl (fun ls hl => ?_)
        refine lv_goto (tgt := 15) hx hb dX0_phoneOf_70 (by decide) ?_
        exact ih x11 l1 l2 v12 (l4 + 1) _ _ _ hI (lv_sub hl [2, 3, 4, 1, 0] rfl) hf
      · refine lv_aload_n hx hb dX0_phoneOf_43 rfl (lv_at hl 0 rfl) ?_
        refine tgX0_137 C hI dX0_phoneOf_44 ?_
        refine t_nn (g := F0 m 47 ls) hf (fun q13 _ hf => ?_)
        refine lv_iload hx hb dX0_phoneOf_47 (lv_at hl 4 rfl) ?_
        refine t_daldR (code := 6) C hI hf rfl dX0_phoneOf_49 (fun o14 hf => ?_)
        refine t_nn (g := F0 m 50 ls) hf (fun q15 _ hf => ?_)
        refine t_cOi (rest := []) C hI hf (tmPh_to l N B _ _) rfl cqX0_Ph_to ⟨Nat.le_of_ble_eq_true rfl, Nat.le_of_ble_eq_true rfl⟩ rfl hl.1 rfl (Nat.le_of_ble_eq_true rfl) dX0_phoneOf_50 (fun v17 x16 H locs hI hf => ?_)
        refine lv_goto (tgt := 66) hx hb dX0_phoneOf_53 (by decide) ?_
        refine lv_istore_n (lv' := [(3, .int v17), (0, .ref (wa w 37)), (1, .int l1), (2, .int l2), (4, .int l4)]) hx hb dX0_phoneOf_66 rfl hl (by decide) rfl (fun ls hl => ?_)
        refine lv_iinc (v := l4 + 1) (lv' := [(4, .int (l4 + 1)), (3, .int v17), (0, .ref (wa w 37)), (1, .int l1), (2, .int l2)]) hx hb dX0_phoneOf_67 hl (k := 4) rfl rfl (by decide) rfl (fun ls hl => ?_)
        refine lv_goto (tgt := 15) hx hb dX0_phoneOf_70 (by decide) ?_
        exact ih x16 l1 l2 v17 (l4 + 1) _ _ _ hI (lv_sub hl [2, 3, 4, 1, 0] rfl) hf
def fT_phoneOf (N : Nat) (B : Nat × Nat) (x : TS) (l1 : Int32) (l2 : Int32) : Option (Int32 × TS) :=
  lt (if l2 = 0 then 0 else 240 : Int32) fun v1 =>
  fT_phoneOf_b15 N B N x l1 l2 v1 0
theorem tmT_phoneOf (l : Launch) (N : Nat) {w : tO} {A : Nat → Prop} (B : Nat × Nat) : ∀ (x : TS) (l1 : Int32) (l2 : Int32) (r : Int32) (xr : TS), fT_phoneOf N B x l1 l2 = some (r, xr) → tMet l yX0_phoneOf (ws_ yX0_phoneOf cX0_phoneOf 5 (some .int)) frT_phoneOf loT_phoneOf [.ref (wa w 37), .int l1, .int l2] w A B x (some (.int r)) xr := by
  intro x l1 l2 r xr hf
  refine t_start (cc := cX0_phoneOf) (own := RX0) (by decide +kernel) rfl (Nat.le_of_ble_eq_true rfl) rfl ?_
  intro p e s m args below meth c ls H locs C hmn hI hl
  have hx := C.1.1
  have hb := C.1.2.1
  have hown := C.1.2.2.2.1
  have hts := C.1.2.2.2.2.1
  have hE := C.2.2
  rw [fT_phoneOf] at hf
  refine lv_iload_n hx hb dX0_phoneOf_0 rfl (lv_at hl 2 rfl) ?_
  suffices hJ : ∀ v1 : Int32, (v1 = (if l2 = 0 then 0 else 240 : Int32)) → W p l e (tRm B frT_phoneOf loT_phoneOf s.heap.size (SL s.heap)) s m args below meth c H locs (tZ x - s.heap.size) (tY x - SL s.heap) (MQ below (tQ w A B (some (.int r)) xr) args s (B.1 - s.heap.size) (B.2 - SL s.heap) A) (F0 m 11 ls [.int v1]) by
    refine lv_if_eq (tgt := 10) hx hb dX0_phoneOf_1 (by decide) (fun hc => ?_) (fun hc => ?_)
    · refine lv_iconst (v := 0) hx hb dX0_phoneOf_10 (by decide) ?_
      exact hJ _ (if_pos hc).symm
    · refine lv_sipush (v := 240) hx hb dX0_phoneOf_4 (by decide) ?_
      refine lv_goto (tgt := 11) hx hb dX0_phoneOf_7 (by decide) ?_
      exact hJ _ (if_neg hc).symm
  intro v1 hv
  have hf := lt_of hv hf
  refine lv_istore_n (lv' := [(3, .int v1), (0, .ref (wa w 37)), (1, .int l1), (2, .int l2)]) hx hb dX0_phoneOf_11 rfl hl (by decide) rfl (fun ls hl => ?_)
  refine lv_iconst (v := 0) hx hb dX0_phoneOf_12 (by decide) ?_
  refine lv_istore (lv' := [(4, .int 0), (3, .int v1), (0, .ref (wa w 37)), (1, .int l1), (2, .int l2)]) hx hb dX0_phoneOf_13 hl (by decide) rfl (fun ls hl => ?_)
  exact w_fT_phoneOf_b15 C N x l1 l2 v1 0 _ _ _ hI (lv_sub hl [2, 3, 4, 1, 0] rfl) hf
/-! TwelveChain$Wrote.day()I -/
abbrev frWr_day : Nat := 0
abbrev loWr_day : Nat := 0
def fWr_day (N : Nat) (B : Nat × Nat) (x : TS) (l0 : Nat) : Option (Int32 × TS) :=
  (dgI x l0 10 0).bind fun v1 =>
  some (v1, x)
theorem tmWr_day (l : Launch) (N : Nat) {w : tO} {A : Nat → Prop} (B : Nat × Nat) : ∀ (x : TS) (l0 : Nat) (r : Int32) (xr : TS), fWr_day N B x l0 = some (r, xr) → tMet l yX11_day (ws_ yX11_day cX11_day 1 (some .int)) frWr_day loWr_day [.ref l0] w A B x (some (.int r)) xr := by
  intro x l0 r xr hf
  refine t_start (cc := cX11_day) (own := RX11) (by decide +kernel) rfl (Nat.le_of_ble_eq_true rfl) rfl ?_
  intro p e s m args below meth c ls H locs C hmn hI hl
  have hx := C.1.1
  have hb := C.1.2.1
  have hown := C.1.2.2.2.1
  have hts := C.1.2.2.2.2.1
  have hE := C.2.2
  rw [fWr_day] at hf
  refine lv_aload_n hx hb dX11_day_0 rfl (lv_at hl 0 rfl) ?_
  refine tgX11_7 C hI hf dX11_day_1 (fun v1 hf => ?_)
  exact t_iret C hI hf dX11_day_4
/-! TwelveChain$Wrote.link()I -/
abbrev frWr_link : Nat := 0
abbrev loWr_link : Nat := 0
def fWr_link (N : Nat) (B : Nat × Nat) (x : TS) (l0 : Nat) : Option (Int32 × TS) :=
  (dgI x l0 10 1).bind fun v1 =>
  some (v1, x)
theorem tmWr_link (l : Launch) (N : Nat) {w : tO} {A : Nat → Prop} (B : Nat × Nat) : ∀ (x : TS) (l0 : Nat) (r : Int32) (xr : TS), fWr_link N B x l0 = some (r, xr) → tMet l yX11_link (ws_ yX11_link cX11_link 1 (some .int)) frWr_link loWr_link [.ref l0] w A B x (some (.int r)) xr := by
  intro x l0 r xr hf
  refine t_start (cc := cX11_link) (own := RX11) (by decide +kernel) rfl (Nat.le_of_ble_eq_true rfl) rfl ?_
  intro p e s m args below meth c ls H locs C hmn hI hl
  have hx := C.1.1
  have hb := C.1.2.1
  have hown := C.1.2.2.2.1
  have hts := C.1.2.2.2.2.1
  have hE := C.2.2
  rw [fWr_link] at hf
  refine lv_aload_n hx hb dX11_link_0 rfl (lv_at hl 0 rfl) ?_
  refine tgX11_13 C hI hf dX11_link_1 (fun v1 hf => ?_)
  exact t_iret C hI hf dX11_link_4
/-! TwelveChain.recordsOf(III)I -/
abbrev frT_recordsOf : Nat := 1
abbrev loT_recordsOf : Nat := 22
def fT_recordsOf_b6 (N : Nat) (B : Nat × Nat) : Nat → TS → Int32 → Int32 → Int32 → Int32 → Int32 → Option (Int32 × TS)
  | 0, _, _, _, _, _, _ => none
  | n + 1, x, l1, l2, l3, l4, l5 =>
  (tR x 20).bind fun q1 =>
  (dlR x q1 7).bind fun v2 =>
  if v2 ≤ l5 then
    some (l4, x)
  else
    (tR x 20).bind fun q3 =>
    (dRg x q3 7 l5).bind fun o4 =>
    o4.bind fun q5 =>
    b2 (gO x q5 10 (fWr_link N B x q5)) fun v7 x6 =>
    if v7 = l1 then
      (tR x6 20).bind fun q8 =>
      (dRg x6 q8 7 l5).bind fun o9 =>
      o9.bind fun q10 =>
      b2 (gO x6 q10 10 (fWr_day N B x6 q10)) fun v12 x11 =>
      (fT_isIn N v12 l2 l3).bind fun v13 =>
      if v13 = 0 then
        fT_recordsOf_b6 N B n x11 l1 l2 l3 (l4 + 0) (l5 + 1)
      else
        fT_recordsOf_b6 N B n x11 l1 l2 l3 (l4 + 1) (l5 + 1)
    else
      fT_recordsOf_b6 N B n x6 l1 l2 l3 (l4 + 0) (l5 + 1)
theorem w_fT_recordsOf_b6 {N : Nat} {B : Nat × Nat} {r : Int32} {xr : TS} (C : tCx w A p s m args meth c cX0_recordsOf 6 RX0 (some .int)) : ∀ (n : Nat) (x : TS) (l1 : Int32) (l2 : Int32) (l3 : Int32) (l4 : Int32) (l5 : Int32) (H : Heap) (locs : List Loc) (ls : Array Slot), tI w A B x s.heap H locs → lv_has ls 6 [(0, .ref (wa w 37)), (1, .int l1), (2, .int l2), (3, .int l3), (4, .int l4), (5, .int l5)] → fT_recordsOf_b6 N B n x l1 l2 l3 l4 l5 = some (r, xr) → W p l e (tRm B frT_recordsOf loT_recordsOf s.heap.size (SL s.heap)) s m args below meth c H locs (tZ x - s.heap.size) (tY x - SL s.heap) (MQ below (tQ w A B (some (.int r)) xr) args s (B.1 - s.heap.size) (B.2 - SL s.heap) A) (F0 m 6 ls []) := by
  have hx := C.1.1
  have hb := C.1.2.1
  have hown := C.1.2.2.2.1
  have hts := C.1.2.2.2.2.1
  have hE := C.2.2
  intro n
  induction n with
  | zero => intro x l1 l2 l3 l4 l5 H locs ls hI hl hf; rw [fT_recordsOf_b6] at hf; cases hf
  | succ n ih =>
  intro x l1 l2 l3 l4 l5 H locs ls hI hl hf
  rw [fT_recordsOf_b6] at hf
  refine lv_iload hx hb dX0_recordsOf_6 (lv_at hl 5 rfl) ?_
  refine lv_aload_n hx hb dX0_recordsOf_8 rfl (lv_at hl 0 rfl) ?_
  refine tgX0_143 C hI dX0_recordsOf_9 ?_
  refine t_nn (g := F0 m 12 ls) hf (fun q1 _ hf => ?_)
  refine t_dlen (code := 7) C hI hf rfl dX0_recordsOf_12 (fun v2 hf => ?_)
  refine b_icge (tgt := 64) hx hb hf dX0_recordsOf_13 (by decide) (fun hf => ?_) (fun hf => ?_)
  · refine lv_iload hx hb dX0_recordsOf_64 (lv_at hl 4 rfl) ?_
    exact t_iret C hI hf dX0_recordsOf_66
  · refine lv_iload hx hb dX0_recordsOf_16 (lv_at hl 4 rfl) ?_
    refine lv_aload_n hx hb dX0_recordsOf_18 rfl (lv_at hl 0 rfl) ?_
    refine tgX0_143 C hI dX0_recordsOf_19 ?_
    refine t_nn (g := F0 m 22 ls) hf (fun q3 _ hf => ?_)
    refine lv_iload hx hb dX0_recordsOf_22 (lv_at hl 5 rfl) ?_
    refine t_daldR (code := 7) C hI hf rfl dX0_recordsOf_24 (fun o4 hf => ?_)
    refine t_nn (g := F0 m 25 ls) hf (fun q5 _ hf => ?_)
    refine t_cOi (rest := [.int l4]) C hI hf (tmWr_link l N B _ _) rfl cqX0_Wr_link ⟨Nat.le_of_ble_eq_true rfl, Nat.le_of_ble_eq_true rfl⟩ rfl hl.1 rfl (Nat.le_of_ble_eq_true rfl) dX0_recordsOf_25 (fun v7 x6 H locs hI hf => ?_)
    refine lv_iload_n hx hb dX0_recordsOf_28 rfl (lv_at hl 1 rfl) ?_
    refine b_icne (tgt := 54) hx hb hf dX0_recordsOf_29 (by decide) (fun hf => ?_) (fun hf => ?_)
    · refine lv_iconst (v := 0) hx hb dX0_recordsOf_54 (by decide) ?_
      refine lv_iadd hx hb dX0_recordsOf_55 ?_
      refine lv_istore (lv' := [(4, .int (l4 + 0)), (0, .ref (wa w 37)), (1, .int l1), (2, .int l2), (3, .int l3), (5, .int l5)]) hx hb dX0_recordsOf_56 hl (by decide) rfl (fun ls hl => ?_)
      refine lv_iinc (v := l5 + 1) (lv' := [(5, .int (l5 + 1)), (4, .int (l4 + 0)), (0, .ref (wa w 37)), (1, .int l1), (2, .int l2), (3, .int l3)]) hx hb dX0_recordsOf_58 hl (k := 5) rfl rfl (by decide) rfl (fun ls hl => ?_)
      refine lv_goto (tgt := 6) hx hb dX0_recordsOf_61 (by decide) ?_
      exact ih x6 l1 l2 l3 (l4 + 0) (l5 + 1) _ _ _ hI (lv_sub hl [2, 3, 4, 5, 1, 0] rfl) hf
    · refine lv_aload_n hx hb dX0_recordsOf_32 rfl (lv_at hl 0 rfl) ?_
      refine tgX0_143 C hI dX0_recordsOf_33 ?_
      refine t_nn (g := F0 m 36 ls) hf (fun q8 _ hf => ?_)
      refine lv_iload hx hb dX0_recordsOf_36 (lv_at hl 5 rfl) ?_
      refine t_daldR (code := 7) C hI hf rfl dX0_recordsOf_38 (fun o9 hf => ?_)
      refine t_nn (g := F0 m 39 ls) hf (fun q10 _ hf => ?_)
      refine t_cOi (rest := [.int l4]) C hI hf (tmWr_day l N B _ _) rfl cqX0_Wr_day ⟨Nat.le_of_ble_eq_true rfl, Nat.le_of_ble_eq_true rfl⟩ rfl hl.1 rfl (Nat.le_of_ble_eq_true rfl) dX0_recordsOf_39 (fun v12 x11 H locs hI hf => ?_)
      refine lv_iload_n hx hb dX0_recordsOf_42 rfl (lv_at hl 2 rfl) ?_
      refine lv_iload_n hx hb dX0_recordsOf_43 rfl (lv_at hl 3 rfl) ?_
      refine g_calliS (rest := [.int l4]) C.1 hf (smT_isIn l N _ _ _) cqT_T_isIn ⟨rfl, rfl⟩ ⟨Nat.le_of_ble_eq_true rfl, Nat.le_of_ble_eq_true rfl⟩ rfl hl.1 rfl (Nat.le_of_ble_eq_true rfl) (t_room hI) dX0_recordsOf_44 (fun v13 hf => ?_)
      refine b_ifeq (tgt := 54) hx hb hf dX0_recordsOf_47 (by decide) (fun hf => ?_) (fun hf => ?_)
      · refine lv_iconst (v := 0) hx hb dX0_recordsOf_54 (by decide) ?_
        refine lv_iadd hx hb dX0_recordsOf_55 ?_
        refine lv_istore (lv' := [(4, .int (l4 + 0)), (0, .ref (wa w 37)), (1, .int l1), (2, .int l2), (3, .int l3), (5, .int l5)]) hx hb dX0_recordsOf_56 hl (by decide) rfl (fun ls hl => ?_)
        refine lv_iinc (v := l5 + 1) (lv' := [(5, .int (l5 + 1)), (4, .int (l4 + 0)), (0, .ref (wa w 37)), (1, .int l1), (2, .int l2), (3, .int l3)]) hx hb dX0_recordsOf_58 hl (k := 5) rfl rfl (by decide) rfl (fun ls hl => ?_)
        refine lv_goto (tgt := 6) hx hb dX0_recordsOf_61 (by decide) ?_
        exact ih x11 l1 l2 l3 (l4 + 0) (l5 + 1) _ _ _ hI (lv_sub hl [2, 3, 4, 5, 1, 0] rfl) hf
      · refine lv_iconst (v := 1) hx hb dX0_recordsOf_50 (by decide) ?_
        refine lv_goto (tgt := 55) hx hb dX0_recordsOf_51 (by decide) ?_
        refine lv_iadd hx hb dX0_recordsOf_55 ?_
        refine lv_istore (lv' := [(4, .int (l4 + 1)), (0, .ref (wa w 37)), (1, .int l1), (2, .int l2), (3, .int l3), (5, .int l5)]) hx hb dX0_recordsOf_56 hl (by decide) rfl (fun ls hl => ?_)
        refine lv_iinc (v := l5 + 1) (lv' := [(5, .int (l5 + 1)), (4, .int (l4 + 1)), (0, .ref (wa w 37)), (1, .int l1), (2, .int l2), (3, .int l3)]) hx hb dX0_recordsOf_58 hl (k := 5) rfl rfl (by decide) rfl (fun ls hl => ?_)
        refine lv_goto (tgt := 6) hx hb dX0_recordsOf_61 (by decide) ?_
        exact ih x11 l1 l2 l3 (l4 + 1) (l5 + 1) _ _ _ hI (lv_sub hl [2, 3, 4, 5, 1, 0] rfl) hf
def fT_recordsOf (N : Nat) (B : Nat × Nat) (x : TS) (l1 : Int32) (l2 : Int32) (l3 : Int32) : Option (Int32 × TS) :=
  fT_recordsOf_b6 N B N x l1 l2 l3 0 0
theorem tmT_recordsOf (l : Launch) (N : Nat) {w : tO} {A : Nat → Prop} (B : Nat × Nat) : ∀ (x : TS) (l1 : Int32) (l2 : Int32) (l3 : Int32) (r : Int32) (xr : TS), fT_recordsOf N B x l1 l2 l3 = some (r, xr) → tMet l yX0_recordsOf (ws_ yX0_recordsOf cX0_recordsOf 6 (some .int)) frT_recordsOf loT_recordsOf [.ref (wa w 37), .int l1, .int l2, .int l3] w A B x (some (.int r)) xr := by
  intro x l1 l2 l3 r xr hf
  refine t_start (cc := cX0_recordsOf) (own := RX0) (by decide +kernel) rfl (Nat.le_of_ble_eq_true rfl) rfl ?_
  intro p e s m args below meth c ls H locs C hmn hI hl
  have hx := C.1.1
  have hb := C.1.2.1
  have hown := C.1.2.2.2.1
  have hts := C.1.2.2.2.2.1
  have hE := C.2.2
  rw [fT_recordsOf] at hf
  refine lv_iconst (v := 0) hx hb dX0_recordsOf_0 (by decide) ?_
  refine lv_istore (lv' := [(4, .int 0), (0, .ref (wa w 37)), (1, .int l1), (2, .int l2), (3, .int l3)]) hx hb dX0_recordsOf_1 hl (by decide) rfl (fun ls hl => ?_)
  refine lv_iconst (v := 0) hx hb dX0_recordsOf_3 (by decide) ?_
  refine lv_istore (lv' := [(5, .int 0), (4, .int 0), (0, .ref (wa w 37)), (1, .int l1), (2, .int l2), (3, .int l3)]) hx hb dX0_recordsOf_4 hl (by decide) rfl (fun ls hl => ?_)
  exact w_fT_recordsOf_b6 C N x l1 l2 l3 0 0 _ _ _ hI (lv_sub hl [2, 3, 4, 5, 1, 0] rfl) hf
/-! TwelveChain.phone(II)I -/
abbrev frT_phone : Nat := 2
abbrev loT_phone : Nat := 47
def fT_phone (N : Nat) (B : Nat × Nat) (x : TS) (l1 : Int32) (l2 : Int32) : Option (Int32 × TS) :=
  b2 (fT_isLink N B x l1) fun v2 x1 =>
  if v2 = 0 then
    some ((-1), x1)
  else
    if l2 = 0 then
      b2 (fT_phoneOf N B x1 l1 0) fun v8 x7 =>
      some (v8, x7)
    else
      if l2 = 1 then
        b2 (fT_phoneOf N B x1 l1 1) fun v6 x5 =>
        some (v6, x5)
      else
        if l2 = 2 then
          b2 (fT_recordsOf N B x1 l1 0 999) fun v4 x3 =>
          some (v4, x3)
        else
          some ((-1), x1)
theorem tmT_phone (l : Launch) (N : Nat) {w : tO} {A : Nat → Prop} (B : Nat × Nat) : ∀ (x : TS) (l1 : Int32) (l2 : Int32) (r : Int32) (xr : TS), fT_phone N B x l1 l2 = some (r, xr) → tMet l yX0_phone (ws_ yX0_phone cX0_phone 3 (some .int)) frT_phone loT_phone [.ref (wa w 37), .int l1, .int l2] w A B x (some (.int r)) xr := by
  intro x l1 l2 r xr hf
  refine t_start (cc := cX0_phone) (own := RX0) (by decide +kernel) rfl (Nat.le_of_ble_eq_true rfl) rfl ?_
  intro p e s m args below meth c ls H locs C hmn hI hl
  have hx := C.1.1
  have hb := C.1.2.1
  have hown := C.1.2.2.2.1
  have hts := C.1.2.2.2.2.1
  have hE := C.2.2
  rw [fT_phone] at hf
  refine lv_aload_n hx hb dX0_phone_0 rfl (lv_at hl 0 rfl) ?_
  refine lv_iload_n hx hb dX0_phone_1 rfl (lv_at hl 1 rfl) ?_
  refine t_cVi (rest := []) C hI hf (tmT_isLink l N B _ _) (rv_main C hI) cqX0_T_isLink ⟨Nat.le_of_ble_eq_true rfl, Nat.le_of_ble_eq_true rfl⟩ rfl hl.1 rfl (Nat.le_of_ble_eq_true rfl) dX0_phone_2 (fun v2 x1 H locs hI hf => ?_)
  refine b_ifne (tgt := 10) hx hb hf dX0_phone_5 (by decide) (fun hf => ?_) (fun hf => ?_)
  · refine lv_iload_n hx hb dX0_phone_10 rfl (lv_at hl 2 rfl) ?_
    refine b_ifne (tgt := 23) hx hb hf dX0_phone_11 (by decide) (fun hf => ?_) (fun hf => ?_)
    · refine lv_iload_n hx hb dX0_phone_23 rfl (lv_at hl 2 rfl) ?_
      refine lv_iconst (v := 1) hx hb dX0_phone_24 (by decide) ?_
      refine b_icne (tgt := 37) hx hb hf dX0_phone_25 (by decide) (fun hf => ?_) (fun hf => ?_)
      · refine lv_iload_n hx hb dX0_phone_37 rfl (lv_at hl 2 rfl) ?_
        refine lv_iconst (v := 2) hx hb dX0_phone_38 (by decide) ?_
        refine b_icne (tgt := 54) hx hb hf dX0_phone_39 (by decide) (fun hf => ?_) (fun hf => ?_)
        · refine lv_iconst (v := (-1)) hx hb dX0_phone_54 (by decide) ?_
          exact t_iret C hI hf dX0_phone_55
        · refine lv_aload_n hx hb dX0_phone_42 rfl (lv_at hl 0 rfl) ?_
          refine lv_iload_n hx hb dX0_phone_43 rfl (lv_at hl 1 rfl) ?_
          refine lv_iconst (v := 0) hx hb dX0_phone_44 (by decide) ?_
          refine lv_sipush (v := 999) hx hb dX0_phone_45 (by decide) ?_
          refine t_cVi (rest := []) C hI hf (tmT_recordsOf l N B _ _ _ _) (rv_main C hI) cqX0_T_recordsOf ⟨Nat.le_of_ble_eq_true rfl, Nat.le_of_ble_eq_true rfl⟩ rfl hl.1 rfl (Nat.le_of_ble_eq_true rfl) dX0_phone_48 (fun v4 x3 H locs hI hf => ?_)
          refine lv_goto (tgt := 55) hx hb dX0_phone_51 (by decide) ?_
          exact t_iret C hI hf dX0_phone_55
      · refine lv_aload_n hx hb dX0_phone_28 rfl (lv_at hl 0 rfl) ?_
        refine lv_iload_n hx hb dX0_phone_29 rfl (lv_at hl 1 rfl) ?_
        refine lv_iconst (v := 1) hx hb dX0_phone_30 (by decide) ?_
        refine t_cVi (rest := []) C hI hf (tmT_phoneOf l N B _ _ _) (rv_main C hI) cqX0_T_phoneOf ⟨Nat.le_of_ble_eq_true rfl, Nat.le_of_ble_eq_true rfl⟩ rfl hl.1 rfl (Nat.le_of_ble_eq_true rfl) dX0_phone_31 (fun v6 x5 H locs hI hf => ?_)
        refine lv_goto (tgt := 55) hx hb dX0_phone_34 (by decide) ?_
        exact t_iret C hI hf dX0_phone_55
    · refine lv_aload_n hx hb dX0_phone_14 rfl (lv_at hl 0 rfl) ?_
      refine lv_iload_n hx hb dX0_phone_15 rfl (lv_at hl 1 rfl) ?_
      refine lv_iconst (v := 0) hx hb dX0_phone_16 (by decide) ?_
      refine t_cVi (rest := []) C hI hf (tmT_phoneOf l N B _ _ _) (rv_main C hI) cqX0_T_phoneOf ⟨Nat.le_of_ble_eq_true rfl, Nat.le_of_ble_eq_true rfl⟩ rfl hl.1 rfl (Nat.le_of_ble_eq_true rfl) dX0_phone_17 (fun v8 x7 H locs hI hf => ?_)
      refine lv_goto (tgt := 55) hx hb dX0_phone_20 (by decide) ?_
      exact t_iret C hI hf dX0_phone_55
  · refine lv_iconst (v := (-1)) hx hb dX0_phone_8 (by decide) ?_
    exact t_iret C hI hf dX0_phone_9
/-! TwelveChain.book(II)I -/
abbrev frT_book : Nat := 1
abbrev loT_book : Nat := 22
def fT_book (N : Nat) (B : Nat × Nat) (x : TS) (l1 : Int32) (l2 : Int32) : Option (Int32 × TS) :=
  (fT_isIn N l1 0 ((tF x 0 11) - 1)).bind fun v1 =>
  if v1 = 0 then
    some ((-1), x)
  else
    (fT_isIn N l2 0 3).bind fun v2 =>
    if v2 = 0 then
      some ((-1), x)
    else
      (rd 600 (tA x 25) ((4 * l1) + l2)).bind fun v3 =>
      some (v3, x)
theorem tmT_book (l : Launch) (N : Nat) {w : tO} {A : Nat → Prop} (B : Nat × Nat) : ∀ (x : TS) (l1 : Int32) (l2 : Int32) (r : Int32) (xr : TS), fT_book N B x l1 l2 = some (r, xr) → tMet l yX0_book (ws_ yX0_book cX0_book 3 (some .int)) frT_book loT_book [.ref (wa w 37), .int l1, .int l2] w A B x (some (.int r)) xr := by
  intro x l1 l2 r xr hf
  refine t_start (cc := cX0_book) (own := RX0) (by decide +kernel) rfl (Nat.le_of_ble_eq_true rfl) rfl ?_
  intro p e s m args below meth c ls H locs C hmn hI hl
  have hx := C.1.1
  have hb := C.1.2.1
  have hown := C.1.2.2.2.1
  have hts := C.1.2.2.2.2.1
  have hE := C.2.2
  rw [fT_book] at hf
  refine lv_iload_n hx hb dX0_book_0 rfl (lv_at hl 1 rfl) ?_
  refine lv_iconst (v := 0) hx hb dX0_book_1 (by decide) ?_
  refine lv_aload_n hx hb dX0_book_2 rfl (lv_at hl 0 rfl) ?_
  refine tgX0_152 C hI dX0_book_3 ?_
  refine tgX0_392 C hI (tI.l3 hI (by decide)) dX0_book_6 ?_
  refine lv_iconst (v := 1) hx hb dX0_book_9 (by decide) ?_
  refine lv_isub hx hb dX0_book_10 ?_
  refine g_calliS (rest := []) C.1 hf (smT_isIn l N _ _ _) cqT_T_isIn ⟨rfl, rfl⟩ ⟨Nat.le_of_ble_eq_true rfl, Nat.le_of_ble_eq_true rfl⟩ rfl hl.1 rfl (Nat.le_of_ble_eq_true rfl) (t_room hI) dX0_book_11 (fun v1 hf => ?_)
  refine b_ifeq (tgt := 39) hx hb hf dX0_book_14 (by decide) (fun hf => ?_) (fun hf => ?_)
  · refine lv_iconst (v := (-1)) hx hb dX0_book_39 (by decide) ?_
    exact t_iret C hI hf dX0_book_40
  · refine lv_iload_n hx hb dX0_book_17 rfl (lv_at hl 2 rfl) ?_
    refine lv_iconst (v := 0) hx hb dX0_book_18 (by decide) ?_
    refine lv_iconst (v := 3) hx hb dX0_book_19 (by decide) ?_
    refine g_calliS (rest := []) C.1 hf (smT_isIn l N _ _ _) cqT_T_isIn ⟨rfl, rfl⟩ ⟨Nat.le_of_ble_eq_true rfl, Nat.le_of_ble_eq_true rfl⟩ rfl hl.1 rfl (Nat.le_of_ble_eq_true rfl) (t_room hI) dX0_book_20 (fun v2 hf => ?_)
    refine b_ifeq (tgt := 39) hx hb hf dX0_book_23 (by decide) (fun hf => ?_) (fun hf => ?_)
    · refine lv_iconst (v := (-1)) hx hb dX0_book_39 (by decide) ?_
      exact t_iret C hI hf dX0_book_40
    · refine lv_aload_n hx hb dX0_book_26 rfl (lv_at hl 0 rfl) ?_
      refine tgX0_162 C hI dX0_book_27 ?_
      refine lv_iconst (v := 4) hx hb dX0_book_30 (by decide) ?_
      refine lv_iload_n hx hb dX0_book_31 rfl (lv_at hl 1 rfl) ?_
      refine lv_imul hx hb dX0_book_32 ?_
      refine lv_iload_n hx hb dX0_book_33 rfl (lv_at hl 2 rfl) ?_
      refine lv_iadd hx hb dX0_book_34 ?_
      refine ta25 C hI hf dX0_book_35 (fun v3 hf => ?_)
      refine lv_goto (tgt := 40) hx hb dX0_book_36 (by decide) ?_
      exact t_iret C hI hf dX0_book_40
/-! TwelveChain$Chain.movedSet()I -/
abbrev frC_movedSet : Nat := 1
abbrev loC_movedSet : Nat := 21
def fC_movedSet_b4 (N : Nat) (B : Nat × Nat) : Nat → TS → cIx → Int32 → Int32 → Option (Int32 × TS)
  | 0, _, _, _, _ => none
  | n + 1, x, l0, l1, l2 =>
  if (tS x 21) ≤ l2 then
    some (l1, x)
  else
    b2 (fC_isMoved N B x l0 l2) fun v2 x1 =>
    lt (if v2 = 0 then 0 else 1 <<< (l2 &&& 31) : Int32) fun v3 =>
    fC_movedSet_b4 N B n x1 l0 (l1 ||| v3) (l2 + 1)
theorem w_fC_movedSet_b4 {N : Nat} {B : Nat × Nat} {r : Int32} {xr : TS} (C : tCx w A p s m args meth c cX2_movedSet 3 RX2 (some .int)) : ∀ (n : Nat) (x : TS) (l0 : cIx) (l1 : Int32) (l2 : Int32) (H : Heap) (locs : List Loc) (ls : Array Slot), l0 < wn w → tI w A B x s.heap H locs → lv_has ls 3 [(0, .ref (wG w l0 5)), (1, .int l1), (2, .int l2)] → fC_movedSet_b4 N B n x l0 l1 l2 = some (r, xr) → W p l e (tRm B frC_movedSet loC_movedSet s.heap.size (SL s.heap)) s m args below meth c H locs (tZ x - s.heap.size) (tY x - SL s.heap) (MQ below (tQ w A B (some (.int r)) xr) args s (B.1 - s.heap.size) (B.2 - SL s.heap) A) (F0 m 4 ls []) := by
  have hx := C.1.1
  have hb := C.1.2.1
  have hown := C.1.2.2.2.1
  have hts := C.1.2.2.2.2.1
  have hE := C.2.2
  intro n
  induction n with
  | zero => intro x l0 l1 l2 H locs ls hi_l0 hI hl hf; rw [fC_movedSet_b4] at hf; cases hf
  | succ n ih =>
  intro x l0 l1 l2 H locs ls hi_l0 hI hl hf
  rw [fC_movedSet_b4] at hf
  refine lv_iload_n hx hb dX2_movedSet_4 rfl (lv_at hl 2 rfl) ?_
  refine lv_aload_n hx hb dX2_movedSet_5 rfl (lv_at hl 0 rfl) ?_
  refine tgX2_3 C hI hi_l0 dX2_movedSet_6 ?_
  refine tgN_75 C hI dX2_movedSet_9 ?_
  refine b_icge (tgt := 39) hx hb hf dX2_movedSet_12 (by decide) (fun hf => ?_) (fun hf => ?_)
  · refine lv_iload_n hx hb dX2_movedSet_39 rfl (lv_at hl 1 rfl) ?_
    exact t_iret C hI hf dX2_movedSet_40
  · refine lv_iload_n hx hb dX2_movedSet_15 rfl (lv_at hl 1 rfl) ?_
    refine lv_aload_n hx hb dX2_movedSet_16 rfl (lv_at hl 0 rfl) ?_
    refine lv_iload_n hx hb dX2_movedSet_17 rfl (lv_at hl 2 rfl) ?_
    refine t_cVi (rest := [.int l1]) C hI hf (tmC_isMoved l N B hi_l0 _ _) (rv_chain C hI hi_l0) cqX2_C_isMoved ⟨Nat.le_of_ble_eq_true rfl, Nat.le_of_ble_eq_true rfl⟩ rfl hl.1 rfl (Nat.le_of_ble_eq_true rfl) dX2_movedSet_18 (fun v2 x1 H locs hI hf => ?_)
    suffices hJ : ∀ v3 : Int32, (v3 = (if v2 = 0 then 0 else 1 <<< (l2 &&& 31) : Int32)) → W p l e (tRm B frC_movedSet loC_movedSet s.heap.size (SL s.heap)) s m args below meth c H locs (tZ x1 - s.heap.size) (tY x1 - SL s.heap) (MQ below (tQ w A B (some (.int r)) xr) args s (B.1 - s.heap.size) (B.2 - SL s.heap) A) (F0 m 31 ls [.int v3, .int l1]) by
      refine lv_if_eq (tgt := 30) hx hb dX2_movedSet_21 (by decide) (fun hc => ?_) (fun hc => ?_)
      · refine lv_iconst (v := 0) hx hb dX2_movedSet_30 (by decide) ?_
        exact hJ _ (if_pos hc).symm
      · refine lv_iconst (v := 1) hx hb dX2_movedSet_24 (by decide) ?_
        refine lv_iload_n hx hb dX2_movedSet_25 rfl (lv_at hl 2 rfl) ?_
        refine lv_ishl hx hb dX2_movedSet_26 ?_
        refine lv_goto (tgt := 31) hx hb dX2_movedSet_27 (by decide) ?_
        exact hJ _ (if_neg hc).symm
    intro v3 hv
    have hf := lt_of hv hf
    refine lv_ior hx hb dX2_movedSet_31 ?_
    refine lv_istore_n (lv' := [(1, .int (l1 ||| v3)), (0, .ref (wG w l0 5)), (2, .int l2)]) hx hb dX2_movedSet_32 rfl hl (by decide) rfl (fun ls hl => ?_)
    refine lv_iinc (v := l2 + 1) (lv' := [(2, .int (l2 + 1)), (1, .int (l1 ||| v3)), (0, .ref (wG w l0 5))]) hx hb dX2_movedSet_33 hl (k := 2) rfl rfl (by decide) rfl (fun ls hl => ?_)
    refine lv_goto (tgt := 4) hx hb dX2_movedSet_36 (by decide) ?_
    exact ih x1 l0 (l1 ||| v3) (l2 + 1) _ _ _ hi_l0 hI (lv_sub hl [2, 1, 0] rfl) hf
def fC_movedSet (N : Nat) (B : Nat × Nat) (x : TS) (l0 : cIx) : Option (Int32 × TS) :=
  fC_movedSet_b4 N B N x l0 0 0
theorem tmC_movedSet (l : Launch) (N : Nat) {w : tO} {A : Nat → Prop} (B : Nat × Nat) {l0 : Nat} (hi_l0 : l0 < wn w) : ∀ (x : TS) (r : Int32) (xr : TS), fC_movedSet N B x l0 = some (r, xr) → tMet l yX2_movedSet (ws_ yX2_movedSet cX2_movedSet 3 (some .int)) frC_movedSet loC_movedSet [.ref (wG w l0 5)] w A B x (some (.int r)) xr := by
  intro x  r xr hf
  refine t_start (cc := cX2_movedSet) (own := RX2) (by decide +kernel) rfl (Nat.le_of_ble_eq_true rfl) rfl ?_
  intro p e s m args below meth c ls H locs C hmn hI hl
  have hx := C.1.1
  have hb := C.1.2.1
  have hown := C.1.2.2.2.1
  have hts := C.1.2.2.2.2.1
  have hE := C.2.2
  rw [fC_movedSet] at hf
  refine lv_iconst (v := 0) hx hb dX2_movedSet_0 (by decide) ?_
  refine lv_istore_n (lv' := [(1, .int 0), (0, .ref (wG w l0 5))]) hx hb dX2_movedSet_1 rfl hl (by decide) rfl (fun ls hl => ?_)
  refine lv_iconst (v := 0) hx hb dX2_movedSet_2 (by decide) ?_
  refine lv_istore_n (lv' := [(2, .int 0), (1, .int 0), (0, .ref (wG w l0 5))]) hx hb dX2_movedSet_3 rfl hl (by decide) rfl (fun ls hl => ?_)
  exact w_fC_movedSet_b4 C N x l0 0 0 _ _ _ hi_l0 hI (lv_sub hl [2, 1, 0] rfl) hf
/-! TwelveChain$Chain.thinks(LTwelveChain$Chain;)LTwelveChain$Chain; -/
abbrev frC_thinks : Nat := 3
abbrev loC_thinks : Nat := 60
def fC_thinks (N : Nat) (B : Nat × Nat) (x : TS) (l0 : cIx) (l1 : cIx) : Option TS :=
  (fC_become N B x l0 l1).bind fun x1 =>
  some (sTF x1 l0 12 1)
theorem tmC_thinks (l : Launch) (N : Nat) {w : tO} {A : Nat → Prop} (B : Nat × Nat) {l0 : Nat} (hi_l0 : l0 < wn w) {l1 : Nat} (hi_l1 : l1 < wn w) : ∀ (x : TS) (xr : TS), fC_thinks N B x l0 l1 = some xr → tMet l yX2_thinks (ws_ yX2_thinks cX2_thinks 2 (some (.object "TwelveChain$Chain"))) frC_thinks loC_thinks [.ref (wG w l0 5), .ref (wG w l1 5)] w A B x (some (.ref (wG w l0 5))) xr := by
  intro x  xr hf
  refine t_start (cc := cX2_thinks) (own := RX2) (by decide +kernel) rfl (Nat.le_of_ble_eq_true rfl) rfl ?_
  intro p e s m args below meth c ls H locs C hmn hI hl
  have hx := C.1.1
  have hb := C.1.2.1
  have hown := C.1.2.2.2.1
  have hts := C.1.2.2.2.2.1
  have hE := C.2.2
  rw [fC_thinks] at hf
  refine lv_aload_n hx hb dX2_thinks_0 rfl (lv_at hl 0 rfl) ?_
  refine lv_aload_n hx hb dX2_thinks_1 rfl (lv_at hl 1 rfl) ?_
  refine t_cVv (rest := []) C hI hf (tmC_become l N B hi_l0 hi_l1 _) (rv_chain C hI hi_l0) cqX2_C_become ⟨Nat.le_of_ble_eq_true rfl, Nat.le_of_ble_eq_true rfl⟩ rfl hl.1 rfl (Nat.le_of_ble_eq_true rfl) dX2_thinks_2 (fun x1 H locs hI hf => ?_)
  refine lv_aload_n hx hb dX2_thinks_5 rfl (lv_at hl 0 rfl) ?_
  refine lv_iconst (v := 1) hx hb dX2_thinks_6 (by decide) ?_
  refine tpX2_61 C hI hi_l0 rfl rfl dX2_thinks_7 (fun H locs hI => ?_)
  refine lv_aload_n hx hb dX2_thinks_10 rfl (lv_at hl 0 rfl) ?_
  exact t_aretC C hI hf dX2_thinks_11
/-! TwelveChain.many(II)I -/
abbrev frT_many : Nat := 2
abbrev loT_many : Nat := 45
def fT_many_b37 (N : Nat) (B : Nat × Nat) : Nat → TS → Int32 → Int32 → Int32 → Option (Int32 × TS)
  | 0, _, _, _, _ => none
  | n + 1, x, l3, l4, l5 =>
  if 60 ≤ l5 then
    some (l5, x)
  else
    (fT_partOf N l4 l3 1000000).bind fun v1 =>
    if 1000000 ≤ (2 * v1) then
      fT_many_b37 N B n x l3 v1 (l5 + 1)
    else
      some (l5, x)
theorem w_fT_many_b37 {N : Nat} {B : Nat × Nat} {r : Int32} {xr : TS} (C : tCx w A p s m args meth c cX0_many 6 RX0 (some .int)) : ∀ (n : Nat) (x : TS) (l3 : Int32) (l4 : Int32) (l5 : Int32) (H : Heap) (locs : List Loc) (ls : Array Slot), tI w A B x s.heap H locs → lv_has ls 6 [(3, .int l3), (4, .int l4), (5, .int l5)] → fT_many_b37 N B n x l3 l4 l5 = some (r, xr) → W p l e (tRm B frT_many loT_many s.heap.size (SL s.heap)) s m args below meth c H locs (tZ x - s.heap.size) (tY x - SL s.heap) (MQ below (tQ w A B (some (.int r)) xr) args s (B.1 - s.heap.size) (B.2 - SL s.heap) A) (F0 m 37 ls []) := by
  have hx := C.1.1
  have hb := C.1.2.1
  have hown := C.1.2.2.2.1
  have hts := C.1.2.2.2.2.1
  have hE := C.2.2
  intro n
  induction n with
  | zero => intro x l3 l4 l5 H locs ls hI hl hf; rw [fT_many_b37] at hf; cases hf
  | succ n ih =>
  intro x l3 l4 l5 H locs ls hI hl hf
  rw [fT_many_b37] at hf
  refine lv_iload hx hb dX0_many_37 (lv_at hl 2 rfl) ?_
  refine lv_bipush (v := 60) hx hb dX0_many_39 (by decide) ?_
  refine b_icge (tgt := 74) hx hb hf dX0_many_41 (by decide) (fun hf => ?_) (fun hf => ?_)
  · refine lv_iload hx hb dX0_many_74 (lv_at hl 2 rfl) ?_
    exact t_iret C hI hf dX0_many_76
  · refine lv_iload hx hb dX0_many_44 (lv_at hl 1 rfl) ?_
    refine lv_iload_n hx hb dX0_many_46 rfl (lv_at hl 0 rfl) ?_
    refine lv_ldcw hx hb hown (hts _ q1162) dX0_many_47 ?_
    refine g_calliS (rest := []) C.1 hf (smT_partOf l N _ _ _) cqT_T_partOf ⟨rfl, rfl⟩ ⟨Nat.le_of_ble_eq_true rfl, Nat.le_of_ble_eq_true rfl⟩ rfl hl.1 rfl (Nat.le_of_ble_eq_true rfl) (t_room hI) dX0_many_50 (fun v1 hf => ?_)
    refine lv_istore (lv' := [(4, .int v1), (3, .int l3), (5, .int l5)]) hx hb dX0_many_53 hl (by decide) rfl (fun ls hl => ?_)
    refine lv_iconst (v := 2) hx hb dX0_many_55 (by decide) ?_
    refine lv_iload hx hb dX0_many_56 (lv_at hl 0 rfl) ?_
    refine lv_imul hx hb dX0_many_58 ?_
    refine lv_ldcw hx hb hown (hts _ q1162) dX0_many_59 ?_
    refine b_icge (tgt := 68) hx hb hf dX0_many_62 (by decide) (fun hf => ?_) (fun hf => ?_)
    · refine lv_iinc (v := l5 + 1) (lv' := [(5, .int (l5 + 1)), (4, .int v1), (3, .int l3)]) hx hb dX0_many_68 hl (k := 2) rfl rfl (by decide) rfl (fun ls hl => ?_)
      refine lv_goto (tgt := 37) hx hb dX0_many_71 (by decide) ?_
      exact ih x l3 v1 (l5 + 1) _ _ _ hI (lv_sub hl [2, 1, 0] rfl) hf
    · refine lv_iload hx hb dX0_many_65 (lv_at hl 2 rfl) ?_
      exact t_iret C hI hf dX0_many_67
def fT_many (N : Nat) (B : Nat × Nat) (x : TS) (l1 : Int32) (l2 : Int32) : Option (Int32 × TS) :=
  (fT_isIn N l1 0 1000).bind fun v1 =>
  if v1 = 0 then
    some ((-1), x)
  else
    (fT_isIn N l2 1 60).bind fun v2 =>
    if v2 = 0 then
      some ((-1), x)
    else
      (fT_readyBy N l1 l2).bind fun v3 =>
      fT_many_b37 N B N x v3 1000000 0
theorem tmT_many (l : Launch) (N : Nat) {w : tO} {A : Nat → Prop} (B : Nat × Nat) : ∀ (x : TS) (l1 : Int32) (l2 : Int32) (r : Int32) (xr : TS), fT_many N B x l1 l2 = some (r, xr) → tMet l yX0_many (ws_ yX0_many cX0_many 6 (some .int)) frT_many loT_many [.ref (wa w 37), .int l1, .int l2] w A B x (some (.int r)) xr := by
  intro x l1 l2 r xr hf
  refine t_start (cc := cX0_many) (own := RX0) (by decide +kernel) rfl (Nat.le_of_ble_eq_true rfl) rfl ?_
  intro p e s m args below meth c ls H locs C hmn hI hl
  have hx := C.1.1
  have hb := C.1.2.1
  have hown := C.1.2.2.2.1
  have hts := C.1.2.2.2.2.1
  have hE := C.2.2
  rw [fT_many] at hf
  refine lv_iload_n hx hb dX0_many_0 rfl (lv_at hl 1 rfl) ?_
  refine lv_iconst (v := 0) hx hb dX0_many_1 (by decide) ?_
  refine lv_sipush (v := 1000) hx hb dX0_many_2 (by decide) ?_
  refine g_calliS (rest := []) C.1 hf (smT_isIn l N _ _ _) cqT_T_isIn ⟨rfl, rfl⟩ ⟨Nat.le_of_ble_eq_true rfl, Nat.le_of_ble_eq_true rfl⟩ rfl hl.1 rfl (Nat.le_of_ble_eq_true rfl) (t_room hI) dX0_many_5 (fun v1 hf => ?_)
  refine b_ifeq (tgt := 21) hx hb hf dX0_many_8 (by decide) (fun hf => ?_) (fun hf => ?_)
  · refine lv_iconst (v := (-1)) hx hb dX0_many_21 (by decide) ?_
    exact t_iret C hI hf dX0_many_22
  · refine lv_iload_n hx hb dX0_many_11 rfl (lv_at hl 2 rfl) ?_
    refine lv_iconst (v := 1) hx hb dX0_many_12 (by decide) ?_
    refine lv_bipush (v := 60) hx hb dX0_many_13 (by decide) ?_
    refine g_calliS (rest := []) C.1 hf (smT_isIn l N _ _ _) cqT_T_isIn ⟨rfl, rfl⟩ ⟨Nat.le_of_ble_eq_true rfl, Nat.le_of_ble_eq_true rfl⟩ rfl hl.1 rfl (Nat.le_of_ble_eq_true rfl) (t_room hI) dX0_many_15 (fun v2 hf => ?_)
    refine b_ifne (tgt := 23) hx hb hf dX0_many_18 (by decide) (fun hf => ?_) (fun hf => ?_)
    · refine lv_iload_n hx hb dX0_many_23 rfl (lv_at hl 1 rfl) ?_
      refine lv_iload_n hx hb dX0_many_24 rfl (lv_at hl 2 rfl) ?_
      refine g_calliS (rest := []) C.1 hf (smT_readyBy l N _ _) cqT_T_readyBy ⟨rfl, rfl⟩ ⟨Nat.le_of_ble_eq_true rfl, Nat.le_of_ble_eq_true rfl⟩ rfl hl.1 rfl (Nat.le_of_ble_eq_true rfl) (t_room hI) dX0_many_25 (fun v3 hf => ?_)
      refine lv_istore_n (lv' := [(3, .int v3), (0, .ref (wa w 37)), (1, .int l1), (2, .int l2)]) hx hb dX0_many_28 rfl hl (by decide) rfl (fun ls hl => ?_)
      refine lv_ldcw hx hb hown (hts _ q1162) dX0_many_29 ?_
      refine lv_istore (lv' := [(4, .int 1000000), (3, .int v3), (0, .ref (wa w 37)), (1, .int l1), (2, .int l2)]) hx hb dX0_many_32 hl (by decide) rfl (fun ls hl => ?_)
      refine lv_iconst (v := 0) hx hb dX0_many_34 (by decide) ?_
      refine lv_istore (lv' := [(5, .int 0), (4, .int 1000000), (3, .int v3), (0, .ref (wa w 37)), (1, .int l1), (2, .int l2)]) hx hb dX0_many_35 hl (by decide) rfl (fun ls hl => ?_)
      exact w_fT_many_b37 C N x v3 1000000 0 _ _ _ hI (lv_sub hl [2, 1, 0] rfl) hf
    · refine lv_iconst (v := (-1)) hx hb dX0_many_21 (by decide) ?_
      exact t_iret C hI hf dX0_many_22
