set_option maxRecDepth 100000
variable {p : Program} {l : Launch} {e : Env} {R : Room} {s : State} {m : MethodId} {args : Array Value} {below : List Frame} {meth : Method} {c : Code} {H : Heap} {locs : List Loc} {Q : State → Prop}
variable {w : tO} {A : Nat → Prop}
theorem cqX0_C_canAsk : cV RX0 429 yX2_canAsk cX2_canAsk 2 (some .boolean) 1 := ⟨lw_V q875 q876 q877 q153 q878, by decide +kernel⟩
theorem cqX0_C_gives : cV RX0 435 yX2_gives cX2_gives 4 (some .int) 2 := ⟨lw_V q894 q895 q896 q153 q897, by decide +kernel⟩
theorem cqX0_C_bridges : cV RX0 441 yX2_bridges cX2_bridges 2 none 1 := ⟨lw_V q974 q975 q976 q153 q977, by decide +kernel⟩
theorem cqX0_C_canPayTo : cV RX0 444 yX2_canPayTo cX2_canPayTo 4 (some .boolean) 3 := ⟨lw_V q982 q983 q984 q153 q985, by decide +kernel⟩
theorem cqX0_C_pays : cV RX0 447 yX2_pays cX2_pays 4 none 3 := ⟨lw_V q986 q987 q988 q153 q989, by decide +kernel⟩
theorem cqX0_C_canPaper : cV RX0 450 yX2_canPaper cX2_canPaper 2 (some .boolean) 1 := ⟨lw_V q994 q995 q996 q153 q997, by decide +kernel⟩
theorem cqX0_C_papers : cV RX0 453 yX2_papers cX2_papers 2 none 1 := ⟨lw_V q998 q999 q1000 q153 q1001, by decide +kernel⟩
theorem cqX0_C_joins : cV RX0 459 yX2_joins cX2_joins 2 none 1 := ⟨lw_V q1007 q1008 q1009 q153 q1010, by decide +kernel⟩
/-! TwelveChain.undo()Z -/
abbrev frT_undo : Nat := 3
abbrev loT_undo : Nat := 60
def fT_undo (N : Nat) (B : Nat × Nat) (x : TS) : Option (Int32 × TS) :=
  if (tS x 27) = 0 then
    some (0, x)
  else
    (hget (sTS x 27 ((tS x 27) - 1)) (tS (sTS x 27 ((tS x 27) - 1)) 27)).bind fun o2 => o2.bind fun j1 =>
    (fC_become N B (sTS x 27 ((tS x 27) - 1)) 0 j1).bind fun x3 =>
    some (1, x3)
theorem tmT_undo (l : Launch) (N : Nat) {w : tO} {A : Nat → Prop} (B : Nat × Nat) : ∀ (x : TS) (r : Int32) (xr : TS), fT_undo N B x  = some (r, xr) → tMet l yX0_undo (ws_ yX0_undo cX0_undo 1 (some .boolean)) frT_undo loT_undo [.ref (wa w 37)] w A B x (some (.int r)) xr := by
  intro x  r xr hf
  refine t_start (cc := cX0_undo) (own := RX0) (by decide +kernel) rfl (Nat.le_of_ble_eq_true rfl) rfl ?_
  intro p e s m args below meth c ls H locs C hmn hI hl
  have hx := C.1.1
  have hb := C.1.2.1
  have hown := C.1.2.2.2.1
  have hts := C.1.2.2.2.2.1
  have hE := C.2.2
  rw [fT_undo] at hf
  refine lv_aload_n hx hb dX0_undo_0 rfl (lv_at hl 0 rfl) ?_
  refine tgX0_377 C hI dX0_undo_1 ?_
  refine b_ifne (tgt := 9) hx hb hf dX0_undo_4 (by decide) (fun hf => ?_) (fun hf => ?_)
  · refine lv_aload_n hx hb dX0_undo_9 rfl (lv_at hl 0 rfl) ?_
    refine lv_dup hx hb dX0_undo_10 rfl ?_
    refine tgX0_377 C hI dX0_undo_11 ?_
    refine lv_iconst (v := 1) hx hb dX0_undo_14 (by decide) ?_
    refine lv_isub hx hb dX0_undo_15 ?_
    refine tpX0_377 C hI dX0_undo_16 (fun H locs hI => ?_)
    refine lv_aload_n hx hb dX0_undo_19 rfl (lv_at hl 0 rfl) ?_
    refine tgX0_152 C hI dX0_undo_20 ?_
    refine lv_aload_n hx hb dX0_undo_23 rfl (lv_at hl 0 rfl) ?_
    refine tgX0_165 C hI dX0_undo_24 ?_
    refine lv_aload_n hx hb dX0_undo_27 rfl (lv_at hl 0 rfl) ?_
    refine tgX0_377 C hI dX0_undo_28 ?_
    refine t_hald1 C hI hf dX0_undo_31 (fun j1 hi_j1 hf => ?_)
    refine t_cVv (rest := []) C hI hf (tmC_become l N B (tI.l3 hI (by decide)) hi_j1 _) (rv_chain C hI (tI.l3 hI (by decide))) cqX0_C_become ⟨Nat.le_of_ble_eq_true rfl, Nat.le_of_ble_eq_true rfl⟩ rfl hl.1 rfl (Nat.le_of_ble_eq_true rfl) dX0_undo_32 (fun x3 H locs hI hf => ?_)
    refine lv_iconst (v := 1) hx hb dX0_undo_35 (by decide) ?_
    exact t_zretc C hI zb_1 hf dX0_undo_36
  · refine lv_iconst (v := 0) hx hb dX0_undo_7 (by decide) ?_
    exact t_zretc C hI zb_0 hf dX0_undo_8
/-! TwelveChain.ask(II)I -/
abbrev frT_ask : Nat := 406
abbrev loT_ask : Nat := 12151
def fT_ask (N : Nat) (B : Nat × Nat) (g : Nat) (x : TS) (l1 : Int32) (l2 : Int32) : Option (Int32 × Nat × TS) :=
  b2 (fT_isLink N B x l1) fun v2 x1 =>
  if v2 = 0 then
    some ((-1), g, x1)
  else
    (fT_isIn N l2 1 99).bind fun v3 =>
    if v3 = 0 then
      some ((-1), g, x1)
    else
      b2 (fC_canAsk N B x1 0 l1) fun v5 x4 =>
      if v5 = 0 then
        some ((-1), g, x4)
      else
        b2 (fT_keepsAhead N B g x4) fun g6 x7 =>
        b2 (fC_gives N B x7 0 (l1 + 1) l2) fun v9 x8 =>
        some (v9, g6, x8)
theorem tmT_ask (l : Launch) (N : Nat) {w : tO} {A : Nat → Prop} (B : Nat × Nat) : ∀ (g : Nat) (x : TS) (l1 : Int32) (l2 : Int32) (r : Int32) (nr : Nat) (xr : TS), wn w = g → fT_ask N B g x l1 l2 = some (r, nr, xr) → tMetE l yX0_ask (ws_ yX0_ask cX0_ask 3 (some .int)) frT_ask loT_ask [.ref (wa w 37), .int l1, .int l2] w A B x (some (.int r)) nr xr := by
  intro g x l1 l2 r nr xr hg hf
  refine tE_start (cc := cX0_ask) (own := RX0) (by decide +kernel) rfl (Nat.le_of_ble_eq_true rfl) rfl ?_
  intro p e s m args below meth c ls H locs hW C hmn hI hl
  rw [hg] at hW
  have hx := C.1.1
  have hb := C.1.2.1
  have hown := C.1.2.2.2.1
  have hts := C.1.2.2.2.2.1
  have hE := C.2.2
  rw [fT_ask] at hf
  refine lv_aload_n hx hb dX0_ask_0 rfl (lv_at hl 0 rfl) ?_
  refine lv_iload_n hx hb dX0_ask_1 rfl (lv_at hl 1 rfl) ?_
  refine t_cVi (rest := []) C hI hf (tmT_isLink l N B _ _) (rv_main C hI) cqX0_T_isLink ⟨Nat.le_of_ble_eq_true rfl, Nat.le_of_ble_eq_true rfl⟩ rfl hl.1 rfl (Nat.le_of_ble_eq_true rfl) dX0_ask_2 (fun v2 x1 H locs hI hf => ?_)
  refine b_ifeq (tgt := 29) hx hb hf dX0_ask_5 (by decide) (fun hf => ?_) (fun hf => ?_)
  · refine lv_iconst (v := (-1)) hx hb dX0_ask_29 (by decide) ?_
    exact tE_iret hW C hI hf dX0_ask_30
  · refine lv_iload_n hx hb dX0_ask_8 rfl (lv_at hl 2 rfl) ?_
    refine lv_iconst (v := 1) hx hb dX0_ask_9 (by decide) ?_
    refine lv_bipush (v := 99) hx hb dX0_ask_10 (by decide) ?_
    refine g_calliS (rest := []) C.1 hf (smT_isIn l N _ _ _) cqT_T_isIn ⟨rfl, rfl⟩ ⟨Nat.le_of_ble_eq_true rfl, Nat.le_of_ble_eq_true rfl⟩ rfl hl.1 rfl (Nat.le_of_ble_eq_true rfl) (t_room hI) dX0_ask_12 (fun v3 hf => ?_)
    refine b_ifeq (tgt := 29) hx hb hf dX0_ask_15 (by decide) (fun hf => ?_) (fun hf => ?_)
    · refine lv_iconst (v := (-1)) hx hb dX0_ask_29 (by decide) ?_
      exact tE_iret hW C hI hf dX0_ask_30
    · refine lv_aload_n hx hb dX0_ask_18 rfl (lv_at hl 0 rfl) ?_
      refine tgX0_152 C hI dX0_ask_19 ?_
      refine lv_iload_n hx hb dX0_ask_22 rfl (lv_at hl 1 rfl) ?_
      refine t_cVi (rest := []) C hI hf (tmC_canAsk l N B (tI.l3 hI (by decide)) _ _) (rv_chain C hI (tI.l3 hI (by decide))) cqX0_C_canAsk ⟨Nat.le_of_ble_eq_true rfl, Nat.le_of_ble_eq_true rfl⟩ rfl hl.1 rfl (Nat.le_of_ble_eq_true rfl) dX0_ask_23 (fun v5 x4 H locs hI hf => ?_)
      refine b_ifne (tgt := 31) hx hb hf dX0_ask_26 (by decide) (fun hf => ?_) (fun hf => ?_)
      · refine lv_aload_n hx hb dX0_ask_31 rfl (lv_at hl 0 rfl) ?_
        refine t_keeps (rest := []) C hW hI hf ⟨Nat.le_of_ble_eq_true rfl, Nat.le_of_ble_eq_true rfl⟩ hl.1 (Nat.le_of_ble_eq_true rfl) dX0_ask_32 (fun w g6 x7 H locs hW hI C h37 hf => ?_)
        rw [← h37] at hl
        refine lv_aload_n hx hb dX0_ask_35 rfl (lv_at hl 0 rfl) ?_
        refine tgX0_152 C hI dX0_ask_36 ?_
        refine lv_iload_n hx hb dX0_ask_39 rfl (lv_at hl 1 rfl) ?_
        refine lv_iconst (v := 1) hx hb dX0_ask_40 (by decide) ?_
        refine lv_iadd hx hb dX0_ask_41 ?_
        refine lv_iload_n hx hb dX0_ask_42 rfl (lv_at hl 2 rfl) ?_
        refine t_cVi (rest := []) C hI hf (tmC_gives l N B (tI.l3 hI (by decide)) _ _ _) (rv_chain C hI (tI.l3 hI (by decide))) cqX0_C_gives ⟨Nat.le_of_ble_eq_true rfl, Nat.le_of_ble_eq_true rfl⟩ rfl hl.1 rfl (Nat.le_of_ble_eq_true rfl) dX0_ask_43 (fun v9 x8 H locs hI hf => ?_)
        exact tE_iret hW C hI hf dX0_ask_46
      · refine lv_iconst (v := (-1)) hx hb dX0_ask_29 (by decide) ?_
        exact tE_iret hW C hI hf dX0_ask_30
/-! TwelveChain.bridge(I)Z -/
abbrev frT_bridge : Nat := 11
abbrev loT_bridge : Nat := 421
def fT_bridge (N : Nat) (B : Nat × Nat) (g : Nat) (x : TS) (l1 : Int32) : Option (Int32 × Nat × TS) :=
  b2 (fT_isLink N B x l1) fun v2 x1 =>
  if v2 = 0 then
    some (0, g, x1)
  else
    b2 (fC_canBridge N B x1 0 l1) fun v4 x3 =>
    if v4 = 0 then
      some (0, g, x3)
    else
      b2 (fT_keepsAhead N B g x3) fun g5 x6 =>
      (fC_bridges N B x6 0 l1).bind fun x7 =>
      some (1, g5, x7)
theorem tmT_bridge (l : Launch) (N : Nat) {w : tO} {A : Nat → Prop} (B : Nat × Nat) : ∀ (g : Nat) (x : TS) (l1 : Int32) (r : Int32) (nr : Nat) (xr : TS), wn w = g → fT_bridge N B g x l1 = some (r, nr, xr) → tMetE l yX0_bridge (ws_ yX0_bridge cX0_bridge 2 (some .boolean)) frT_bridge loT_bridge [.ref (wa w 37), .int l1] w A B x (some (.int r)) nr xr := by
  intro g x l1 r nr xr hg hf
  refine tE_start (cc := cX0_bridge) (own := RX0) (by decide +kernel) rfl (Nat.le_of_ble_eq_true rfl) rfl ?_
  intro p e s m args below meth c ls H locs hW C hmn hI hl
  rw [hg] at hW
  have hx := C.1.1
  have hb := C.1.2.1
  have hown := C.1.2.2.2.1
  have hts := C.1.2.2.2.2.1
  have hE := C.2.2
  rw [fT_bridge] at hf
  refine lv_aload_n hx hb dX0_bridge_0 rfl (lv_at hl 0 rfl) ?_
  refine lv_iload_n hx hb dX0_bridge_1 rfl (lv_at hl 1 rfl) ?_
  refine t_cVi (rest := []) C hI hf (tmT_isLink l N B _ _) (rv_main C hI) cqX0_T_isLink ⟨Nat.le_of_ble_eq_true rfl, Nat.le_of_ble_eq_true rfl⟩ rfl hl.1 rfl (Nat.le_of_ble_eq_true rfl) dX0_bridge_2 (fun v2 x1 H locs hI hf => ?_)
  refine b_ifeq (tgt := 19) hx hb hf dX0_bridge_5 (by decide) (fun hf => ?_) (fun hf => ?_)
  · refine lv_iconst (v := 0) hx hb dX0_bridge_19 (by decide) ?_
    exact tE_zretc hW C hI zb_0 hf dX0_bridge_20
  · refine lv_aload_n hx hb dX0_bridge_8 rfl (lv_at hl 0 rfl) ?_
    refine tgX0_152 C hI dX0_bridge_9 ?_
    refine lv_iload_n hx hb dX0_bridge_12 rfl (lv_at hl 1 rfl) ?_
    refine t_cVi (rest := []) C hI hf (tmC_canBridge l N B (tI.l3 hI (by decide)) _ _) (rv_chain C hI (tI.l3 hI (by decide))) cqX0_C_canBridge ⟨Nat.le_of_ble_eq_true rfl, Nat.le_of_ble_eq_true rfl⟩ rfl hl.1 rfl (Nat.le_of_ble_eq_true rfl) dX0_bridge_13 (fun v4 x3 H locs hI hf => ?_)
    refine b_ifne (tgt := 21) hx hb hf dX0_bridge_16 (by decide) (fun hf => ?_) (fun hf => ?_)
    · refine lv_aload_n hx hb dX0_bridge_21 rfl (lv_at hl 0 rfl) ?_
      refine t_keeps (rest := []) C hW hI hf ⟨Nat.le_of_ble_eq_true rfl, Nat.le_of_ble_eq_true rfl⟩ hl.1 (Nat.le_of_ble_eq_true rfl) dX0_bridge_22 (fun w g5 x6 H locs hW hI C h37 hf => ?_)
      rw [← h37] at hl
      refine lv_aload_n hx hb dX0_bridge_25 rfl (lv_at hl 0 rfl) ?_
      refine tgX0_152 C hI dX0_bridge_26 ?_
      refine lv_iload_n hx hb dX0_bridge_29 rfl (lv_at hl 1 rfl) ?_
      refine t_cVv (rest := []) C hI hf (tmC_bridges l N B (tI.l3 hI (by decide)) _ _) (rv_chain C hI (tI.l3 hI (by decide))) cqX0_C_bridges ⟨Nat.le_of_ble_eq_true rfl, Nat.le_of_ble_eq_true rfl⟩ rfl hl.1 rfl (Nat.le_of_ble_eq_true rfl) dX0_bridge_30 (fun x7 H locs hI hf => ?_)
      refine lv_iconst (v := 1) hx hb dX0_bridge_33 (by decide) ?_
      exact tE_zretc hW C hI zb_1 hf dX0_bridge_34
    · refine lv_iconst (v := 0) hx hb dX0_bridge_19 (by decide) ?_
      exact tE_zretc hW C hI zb_0 hf dX0_bridge_20
/-! TwelveChain.pay(III)Z -/
abbrev frT_pay : Nat := 11
abbrev loT_pay : Nat := 421
def fT_pay (N : Nat) (B : Nat × Nat) (g : Nat) (x : TS) (l1 : Int32) (l2 : Int32) (l3 : Int32) : Option (Int32 × Nat × TS) :=
  b2 (fT_isLink N B x l1) fun v2 x1 =>
  if v2 = 0 then
    some (0, g, x1)
  else
    b2 (fT_isLink N B x1 l2) fun v4 x3 =>
    if v4 = 0 then
      some (0, g, x3)
    else
      if l1 = l2 then
        some (0, g, x3)
      else
        (fT_isIn N l3 1 99).bind fun v5 =>
        if v5 = 0 then
          some (0, g, x3)
        else
          b2 (fC_canPayTo N B x3 0 l1 l2 l3) fun v7 x6 =>
          if v7 = 0 then
            some (0, g, x6)
          else
            b2 (fT_keepsAhead N B g x6) fun g8 x9 =>
            (fC_pays N B x9 0 l1 l2 l3).bind fun x10 =>
            some (1, g8, x10)
theorem tmT_pay (l : Launch) (N : Nat) {w : tO} {A : Nat → Prop} (B : Nat × Nat) : ∀ (g : Nat) (x : TS) (l1 : Int32) (l2 : Int32) (l3 : Int32) (r : Int32) (nr : Nat) (xr : TS), wn w = g → fT_pay N B g x l1 l2 l3 = some (r, nr, xr) → tMetE l yX0_pay (ws_ yX0_pay cX0_pay 4 (some .boolean)) frT_pay loT_pay [.ref (wa w 37), .int l1, .int l2, .int l3] w A B x (some (.int r)) nr xr := by
  intro g x l1 l2 l3 r nr xr hg hf
  refine tE_start (cc := cX0_pay) (own := RX0) (by decide +kernel) rfl (Nat.le_of_ble_eq_true rfl) rfl ?_
  intro p e s m args below meth c ls H locs hW C hmn hI hl
  rw [hg] at hW
  have hx := C.1.1
  have hb := C.1.2.1
  have hown := C.1.2.2.2.1
  have hts := C.1.2.2.2.2.1
  have hE := C.2.2
  rw [fT_pay] at hf
  refine lv_aload_n hx hb dX0_pay_0 rfl (lv_at hl 0 rfl) ?_
  refine lv_iload_n hx hb dX0_pay_1 rfl (lv_at hl 1 rfl) ?_
  refine t_cVi (rest := []) C hI hf (tmT_isLink l N B _ _) (rv_main C hI) cqX0_T_isLink ⟨Nat.le_of_ble_eq_true rfl, Nat.le_of_ble_eq_true rfl⟩ rfl hl.1 rfl (Nat.le_of_ble_eq_true rfl) dX0_pay_2 (fun v2 x1 H locs hI hf => ?_)
  refine b_ifeq (tgt := 44) hx hb hf dX0_pay_5 (by decide) (fun hf => ?_) (fun hf => ?_)
  · refine lv_iconst (v := 0) hx hb dX0_pay_44 (by decide) ?_
    exact tE_zretc hW C hI zb_0 hf dX0_pay_45
  · refine lv_aload_n hx hb dX0_pay_8 rfl (lv_at hl 0 rfl) ?_
    refine lv_iload_n hx hb dX0_pay_9 rfl (lv_at hl 2 rfl) ?_
    refine t_cVi (rest := []) C hI hf (tmT_isLink l N B _ _) (rv_main C hI) cqX0_T_isLink ⟨Nat.le_of_ble_eq_true rfl, Nat.le_of_ble_eq_true rfl⟩ rfl hl.1 rfl (Nat.le_of_ble_eq_true rfl) dX0_pay_10 (fun v4 x3 H locs hI hf => ?_)
    refine b_ifeq (tgt := 44) hx hb hf dX0_pay_13 (by decide) (fun hf => ?_) (fun hf => ?_)
    · refine lv_iconst (v := 0) hx hb dX0_pay_44 (by decide) ?_
      exact tE_zretc hW C hI zb_0 hf dX0_pay_45
    · refine lv_iload_n hx hb dX0_pay_16 rfl (lv_at hl 1 rfl) ?_
      refine lv_iload_n hx hb dX0_pay_17 rfl (lv_at hl 2 rfl) ?_
      refine b_iceq (tgt := 44) hx hb hf dX0_pay_18 (by decide) (fun hf => ?_) (fun hf => ?_)
      · refine lv_iconst (v := 0) hx hb dX0_pay_44 (by decide) ?_
        exact tE_zretc hW C hI zb_0 hf dX0_pay_45
      · refine lv_iload_n hx hb dX0_pay_21 rfl (lv_at hl 3 rfl) ?_
        refine lv_iconst (v := 1) hx hb dX0_pay_22 (by decide) ?_
        refine lv_bipush (v := 99) hx hb dX0_pay_23 (by decide) ?_
        refine g_calliS (rest := []) C.1 hf (smT_isIn l N _ _ _) cqT_T_isIn ⟨rfl, rfl⟩ ⟨Nat.le_of_ble_eq_true rfl, Nat.le_of_ble_eq_true rfl⟩ rfl hl.1 rfl (Nat.le_of_ble_eq_true rfl) (t_room hI) dX0_pay_25 (fun v5 hf => ?_)
        refine b_ifeq (tgt := 44) hx hb hf dX0_pay_28 (by decide) (fun hf => ?_) (fun hf => ?_)
        · refine lv_iconst (v := 0) hx hb dX0_pay_44 (by decide) ?_
          exact tE_zretc hW C hI zb_0 hf dX0_pay_45
        · refine lv_aload_n hx hb dX0_pay_31 rfl (lv_at hl 0 rfl) ?_
          refine tgX0_152 C hI dX0_pay_32 ?_
          refine lv_iload_n hx hb dX0_pay_35 rfl (lv_at hl 1 rfl) ?_
          refine lv_iload_n hx hb dX0_pay_36 rfl (lv_at hl 2 rfl) ?_
          refine lv_iload_n hx hb dX0_pay_37 rfl (lv_at hl 3 rfl) ?_
          refine t_cVi (rest := []) C hI hf (tmC_canPayTo l N B (tI.l3 hI (by decide)) _ _ _ _) (rv_chain C hI (tI.l3 hI (by decide))) cqX0_C_canPayTo ⟨Nat.le_of_ble_eq_true rfl, Nat.le_of_ble_eq_true rfl⟩ rfl hl.1 rfl (Nat.le_of_ble_eq_true rfl) dX0_pay_38 (fun v7 x6 H locs hI hf => ?_)
          refine b_ifne (tgt := 46) hx hb hf dX0_pay_41 (by decide) (fun hf => ?_) (fun hf => ?_)
          · refine lv_aload_n hx hb dX0_pay_46 rfl (lv_at hl 0 rfl) ?_
            refine t_keeps (rest := []) C hW hI hf ⟨Nat.le_of_ble_eq_true rfl, Nat.le_of_ble_eq_true rfl⟩ hl.1 (Nat.le_of_ble_eq_true rfl) dX0_pay_47 (fun w g8 x9 H locs hW hI C h37 hf => ?_)
            rw [← h37] at hl
            refine lv_aload_n hx hb dX0_pay_50 rfl (lv_at hl 0 rfl) ?_
            refine tgX0_152 C hI dX0_pay_51 ?_
            refine lv_iload_n hx hb dX0_pay_54 rfl (lv_at hl 1 rfl) ?_
            refine lv_iload_n hx hb dX0_pay_55 rfl (lv_at hl 2 rfl) ?_
            refine lv_iload_n hx hb dX0_pay_56 rfl (lv_at hl 3 rfl) ?_
            refine t_cVv (rest := []) C hI hf (tmC_pays l N B (tI.l3 hI (by decide)) _ _ _ _) (rv_chain C hI (tI.l3 hI (by decide))) cqX0_C_pays ⟨Nat.le_of_ble_eq_true rfl, Nat.le_of_ble_eq_true rfl⟩ rfl hl.1 rfl (Nat.le_of_ble_eq_true rfl) dX0_pay_57 (fun x10 H locs hI hf => ?_)
            refine lv_iconst (v := 1) hx hb dX0_pay_60 (by decide) ?_
            exact tE_zretc hW C hI zb_1 hf dX0_pay_61
          · refine lv_iconst (v := 0) hx hb dX0_pay_44 (by decide) ?_
            exact tE_zretc hW C hI zb_0 hf dX0_pay_45
/-! TwelveChain.paper(I)Z -/
abbrev frT_paper : Nat := 11
abbrev loT_paper : Nat := 421
def fT_paper (N : Nat) (B : Nat × Nat) (g : Nat) (x : TS) (l1 : Int32) : Option (Int32 × Nat × TS) :=
  b2 (fT_isLink N B x l1) fun v2 x1 =>
  if v2 = 0 then
    some (0, g, x1)
  else
    b2 (fC_canPaper N B x1 0 l1) fun v4 x3 =>
    if v4 = 0 then
      some (0, g, x3)
    else
      b2 (fT_keepsAhead N B g x3) fun g5 x6 =>
      (fC_papers N B x6 0 l1).bind fun x7 =>
      some (1, g5, x7)
theorem tmT_paper (l : Launch) (N : Nat) {w : tO} {A : Nat → Prop} (B : Nat × Nat) : ∀ (g : Nat) (x : TS) (l1 : Int32) (r : Int32) (nr : Nat) (xr : TS), wn w = g → fT_paper N B g x l1 = some (r, nr, xr) → tMetE l yX0_paper (ws_ yX0_paper cX0_paper 2 (some .boolean)) frT_paper loT_paper [.ref (wa w 37), .int l1] w A B x (some (.int r)) nr xr := by
  intro g x l1 r nr xr hg hf
  refine tE_start (cc := cX0_paper) (own := RX0) (by decide +kernel) rfl (Nat.le_of_ble_eq_true rfl) rfl ?_
  intro p e s m args below meth c ls H locs hW C hmn hI hl
  rw [hg] at hW
  have hx := C.1.1
  have hb := C.1.2.1
  have hown := C.1.2.2.2.1
  have hts := C.1.2.2.2.2.1
  have hE := C.2.2
  rw [fT_paper] at hf
  refine lv_aload_n hx hb dX0_paper_0 rfl (lv_at hl 0 rfl) ?_
  refine lv_iload_n hx hb dX0_paper_1 rfl (lv_at hl 1 rfl) ?_
  refine t_cVi (rest := []) C hI hf (tmT_isLink l N B _ _) (rv_main C hI) cqX0_T_isLink ⟨Nat.le_of_ble_eq_true rfl, Nat.le_of_ble_eq_true rfl⟩ rfl hl.1 rfl (Nat.le_of_ble_eq_true rfl) dX0_paper_2 (fun v2 x1 H locs hI hf => ?_)
  refine b_ifeq (tgt := 19) hx hb hf dX0_paper_5 (by decide) (fun hf => ?_) (fun hf => ?_)
  · refine lv_iconst (v := 0) hx hb dX0_paper_19 (by decide) ?_
    exact tE_zretc hW C hI zb_0 hf dX0_paper_20
  · refine lv_aload_n hx hb dX0_paper_8 rfl (lv_at hl 0 rfl) ?_
    refine tgX0_152 C hI dX0_paper_9 ?_
    refine lv_iload_n hx hb dX0_paper_12 rfl (lv_at hl 1 rfl) ?_
    refine t_cVi (rest := []) C hI hf (tmC_canPaper l N B (tI.l3 hI (by decide)) _ _) (rv_chain C hI (tI.l3 hI (by decide))) cqX0_C_canPaper ⟨Nat.le_of_ble_eq_true rfl, Nat.le_of_ble_eq_true rfl⟩ rfl hl.1 rfl (Nat.le_of_ble_eq_true rfl) dX0_paper_13 (fun v4 x3 H locs hI hf => ?_)
    refine b_ifne (tgt := 21) hx hb hf dX0_paper_16 (by decide) (fun hf => ?_) (fun hf => ?_)
    · refine lv_aload_n hx hb dX0_paper_21 rfl (lv_at hl 0 rfl) ?_
      refine t_keeps (rest := []) C hW hI hf ⟨Nat.le_of_ble_eq_true rfl, Nat.le_of_ble_eq_true rfl⟩ hl.1 (Nat.le_of_ble_eq_true rfl) dX0_paper_22 (fun w g5 x6 H locs hW hI C h37 hf => ?_)
      rw [← h37] at hl
      refine lv_aload_n hx hb dX0_paper_25 rfl (lv_at hl 0 rfl) ?_
      refine tgX0_152 C hI dX0_paper_26 ?_
      refine lv_iload_n hx hb dX0_paper_29 rfl (lv_at hl 1 rfl) ?_
      refine t_cVv (rest := []) C hI hf (tmC_papers l N B (tI.l3 hI (by decide)) _ _) (rv_chain C hI (tI.l3 hI (by decide))) cqX0_C_papers ⟨Nat.le_of_ble_eq_true rfl, Nat.le_of_ble_eq_true rfl⟩ rfl hl.1 rfl (Nat.le_of_ble_eq_true rfl) dX0_paper_30 (fun x7 H locs hI hf => ?_)
      refine lv_iconst (v := 1) hx hb dX0_paper_33 (by decide) ?_
      exact tE_zretc hW C hI zb_1 hf dX0_paper_34
    · refine lv_iconst (v := 0) hx hb dX0_paper_19 (by decide) ?_
      exact tE_zretc hW C hI zb_0 hf dX0_paper_20
/-! TwelveChain.join(I)Z -/
abbrev frT_join : Nat := 11
abbrev loT_join : Nat := 421
def fT_join (N : Nat) (B : Nat × Nat) (g : Nat) (x : TS) (l1 : Int32) : Option (Int32 × Nat × TS) :=
  b2 (fT_isLink N B x l1) fun v2 x1 =>
  if v2 = 0 then
    some (0, g, x1)
  else
    (fT_has N (tF x1 0 6) l1).bind fun v3 =>
    if v3 = 0 then
      some (0, g, x1)
    else
      b2 (fT_keepsAhead N B g x1) fun g4 x5 =>
      (fC_joins N B x5 0 l1).bind fun x6 =>
      some (1, g4, x6)
theorem tmT_join (l : Launch) (N : Nat) {w : tO} {A : Nat → Prop} (B : Nat × Nat) : ∀ (g : Nat) (x : TS) (l1 : Int32) (r : Int32) (nr : Nat) (xr : TS), wn w = g → fT_join N B g x l1 = some (r, nr, xr) → tMetE l yX0_join (ws_ yX0_join cX0_join 2 (some .boolean)) frT_join loT_join [.ref (wa w 37), .int l1] w A B x (some (.int r)) nr xr := by
  intro g x l1 r nr xr hg hf
  refine tE_start (cc := cX0_join) (own := RX0) (by decide +kernel) rfl (Nat.le_of_ble_eq_true rfl) rfl ?_
  intro p e s m args below meth c ls H locs hW C hmn hI hl
  rw [hg] at hW
  have hx := C.1.1
  have hb := C.1.2.1
  have hown := C.1.2.2.2.1
  have hts := C.1.2.2.2.2.1
  have hE := C.2.2
  rw [fT_join] at hf
  refine lv_aload_n hx hb dX0_join_0 rfl (lv_at hl 0 rfl) ?_
  refine lv_iload_n hx hb dX0_join_1 rfl (lv_at hl 1 rfl) ?_
  refine t_cVi (rest := []) C hI hf (tmT_isLink l N B _ _) (rv_main C hI) cqX0_T_isLink ⟨Nat.le_of_ble_eq_true rfl, Nat.le_of_ble_eq_true rfl⟩ rfl hl.1 rfl (Nat.le_of_ble_eq_true rfl) dX0_join_2 (fun v2 x1 H locs hI hf => ?_)
  refine b_ifeq (tgt := 22) hx hb hf dX0_join_5 (by decide) (fun hf => ?_) (fun hf => ?_)
  · refine lv_iconst (v := 0) hx hb dX0_join_22 (by decide) ?_
    exact tE_zretc hW C hI zb_0 hf dX0_join_23
  · refine lv_aload_n hx hb dX0_join_8 rfl (lv_at hl 0 rfl) ?_
    refine tgX0_152 C hI dX0_join_9 ?_
    refine tgX0_417 C hI (tI.l3 hI (by decide)) dX0_join_12 ?_
    refine lv_iload_n hx hb dX0_join_15 rfl (lv_at hl 1 rfl) ?_
    refine g_calliS (rest := []) C.1 hf (smT_has l N _ _) cqT_T_has ⟨rfl, rfl⟩ ⟨Nat.le_of_ble_eq_true rfl, Nat.le_of_ble_eq_true rfl⟩ rfl hl.1 rfl (Nat.le_of_ble_eq_true rfl) (t_room hI) dX0_join_16 (fun v3 hf => ?_)
    refine b_ifne (tgt := 24) hx hb hf dX0_join_19 (by decide) (fun hf => ?_) (fun hf => ?_)
    · refine lv_aload_n hx hb dX0_join_24 rfl (lv_at hl 0 rfl) ?_
      refine t_keeps (rest := []) C hW hI hf ⟨Nat.le_of_ble_eq_true rfl, Nat.le_of_ble_eq_true rfl⟩ hl.1 (Nat.le_of_ble_eq_true rfl) dX0_join_25 (fun w g4 x5 H locs hW hI C h37 hf => ?_)
      rw [← h37] at hl
      refine lv_aload_n hx hb dX0_join_28 rfl (lv_at hl 0 rfl) ?_
      refine tgX0_152 C hI dX0_join_29 ?_
      refine lv_iload_n hx hb dX0_join_32 rfl (lv_at hl 1 rfl) ?_
      refine t_cVv (rest := []) C hI hf (tmC_joins l N B (tI.l3 hI (by decide)) _ _) (rv_chain C hI (tI.l3 hI (by decide))) cqX0_C_joins ⟨Nat.le_of_ble_eq_true rfl, Nat.le_of_ble_eq_true rfl⟩ rfl hl.1 rfl (Nat.le_of_ble_eq_true rfl) dX0_join_33 (fun x6 H locs hI hf => ?_)
      refine lv_iconst (v := 1) hx hb dX0_join_36 (by decide) ?_
      exact tE_zretc hW C hI zb_1 hf dX0_join_37
    · refine lv_iconst (v := 0) hx hb dX0_join_22 (by decide) ?_
      exact tE_zretc hW C hI zb_0 hf dX0_join_23
/-! TwelveChain.days(I)I -/
abbrev frT_days : Nat := 408
abbrev loT_days : Nat := 12194
def fT_days_b31 (N : Nat) (B : Nat × Nat) : Nat → Nat → TS → Int32 → Int32 → Int32 → Option (Int32 × Nat × TS)
  | 0, _, _, _, _, _ => none
  | n + 1, g, x, l1, l2, l3 =>
  if l1 ≤ l3 then
    some (l2, g, x)
  else
    b2 (fT_keepsAhead N B g x) fun g1 x2 =>
    b2 (fC_goesBy N B x2 0) fun v4 x3 =>
    fT_days_b31 N B n g1 x3 l1 (l2 + v4) (l3 + 1)
theorem w_fT_days_b31 {N : Nat} {B : Nat × Nat} {w0 : tO} {r : Int32} {nr : Nat} {xr : TS} : ∀ (n : Nat) (w : tO) (g : Nat) (x : TS) (l1 : Int32) (l2 : Int32) (l3 : Int32) (H : Heap) (locs : List Loc) (ls : Array Slot), Wx w0 w g → tCx w A p s m args meth c cX0_days 4 RX0 (some .int) → tI w A B x s.heap H locs → lv_has ls 4 [(0, .ref (wa w 37)), (1, .int l1), (2, .int l2), (3, .int l3)] → fT_days_b31 N B n g x l1 l2 l3 = some (r, nr, xr) → W p l e (tRm B frT_days loT_days s.heap.size (SL s.heap)) s m args below meth c H locs (tZ x - s.heap.size) (tY x - SL s.heap) (MQ below (tQE w0 A B (some (.int r)) nr xr) args s (B.1 - s.heap.size) (B.2 - SL s.heap) A) (F0 m 31 ls []) := by
  intro n
  induction n with
  | zero => intro w g x l1 l2 l3 H locs ls hW C hI hl hf; rw [fT_days_b31] at hf; cases hf
  | succ n ih =>
  intro w g x l1 l2 l3 H locs ls hW C hI hl hf
  rw [fT_days_b31] at hf
  have hx := C.1.1
  have hb := C.1.2.1
  have hown := C.1.2.2.2.1
  have hts := C.1.2.2.2.2.1
  have hE := C.2.2
  refine lv_iload_n hx hb dX0_days_31 rfl (lv_at hl 3 rfl) ?_
  refine lv_iload_n hx hb dX0_days_32 rfl (lv_at hl 1 rfl) ?_
  refine b_icge (tgt := 56) hx hb hf dX0_days_33 (by decide) (fun hf => ?_) (fun hf => ?_)
  · refine lv_iload_n hx hb dX0_days_56 rfl (lv_at hl 2 rfl) ?_
    exact tE_iret hW C hI hf dX0_days_57
  · refine lv_aload_n hx hb dX0_days_36 rfl (lv_at hl 0 rfl) ?_
    refine t_keeps (rest := []) C hW hI hf ⟨Nat.le_of_ble_eq_true rfl, Nat.le_of_ble_eq_true rfl⟩ hl.1 (Nat.le_of_ble_eq_true rfl) dX0_days_37 (fun w g1 x2 H locs hW hI C h37 hf => ?_)
    rw [← h37] at hl
    refine lv_iload_n hx hb dX0_days_40 rfl (lv_at hl 2 rfl) ?_
    refine lv_aload_n hx hb dX0_days_41 rfl (lv_at hl 0 rfl) ?_
    refine tgX0_152 C hI dX0_days_42 ?_
    refine t_cVi (rest := [.int l2]) C hI hf (tmC_goesBy l N B (tI.l3 hI (by decide)) _) (rv_chain C hI (tI.l3 hI (by decide))) cqX0_C_goesBy ⟨Nat.le_of_ble_eq_true rfl, Nat.le_of_ble_eq_true rfl⟩ rfl hl.1 rfl (Nat.le_of_ble_eq_true rfl) dX0_days_45 (fun v4 x3 H locs hI hf => ?_)
    refine lv_iadd hx hb dX0_days_48 ?_
    refine lv_istore_n (lv' := [(2, .int (l2 + v4)), (0, .ref (wa w 37)), (1, .int l1), (3, .int l3)]) hx hb dX0_days_49 rfl hl (by decide) rfl (fun ls hl => ?_)
    refine lv_iinc (v := l3 + 1) (lv' := [(3, .int (l3 + 1)), (2, .int (l2 + v4)), (0, .ref (wa w 37)), (1, .int l1)]) hx hb dX0_days_50 hl (k := 3) rfl rfl (by decide) rfl (fun ls hl => ?_)
    refine lv_goto (tgt := 31) hx hb dX0_days_53 (by decide) ?_
    exact ih _ g1 x3 l1 (l2 + v4) (l3 + 1) _ _ _ hW C hI (lv_sub hl [2, 3, 1, 0] rfl) hf
def fT_days (N : Nat) (B : Nat × Nat) (g : Nat) (x : TS) (l1 : Int32) : Option (Int32 × Nat × TS) :=
  (fT_isIn N l1 1 60).bind fun v1 =>
  if v1 = 0 then
    some ((-1), g, x)
  else
    if ((tF x 0 8) + l1) ≤ 9999 then
      fT_days_b31 N B N g x l1 0 0
    else
      some ((-1), g, x)
theorem tmT_days (l : Launch) (N : Nat) {w : tO} {A : Nat → Prop} (B : Nat × Nat) : ∀ (g : Nat) (x : TS) (l1 : Int32) (r : Int32) (nr : Nat) (xr : TS), wn w = g → fT_days N B g x l1 = some (r, nr, xr) → tMetE l yX0_days (ws_ yX0_days cX0_days 4 (some .int)) frT_days loT_days [.ref (wa w 37), .int l1] w A B x (some (.int r)) nr xr := by
  intro g x l1 r nr xr hg hf
  refine tE_start (cc := cX0_days) (own := RX0) (by decide +kernel) rfl (Nat.le_of_ble_eq_true rfl) rfl ?_
  intro p e s m args below meth c ls H locs hW C hmn hI hl
  rw [hg] at hW
  have hx := C.1.1
  have hb := C.1.2.1
  have hown := C.1.2.2.2.1
  have hts := C.1.2.2.2.2.1
  have hE := C.2.2
  rw [fT_days] at hf
  refine lv_iload_n hx hb dX0_days_0 rfl (lv_at hl 1 rfl) ?_
  refine lv_iconst (v := 1) hx hb dX0_days_1 (by decide) ?_
  refine lv_bipush (v := 60) hx hb dX0_days_2 (by decide) ?_
  refine g_calliS (rest := []) C.1 hf (smT_isIn l N _ _ _) cqT_T_isIn ⟨rfl, rfl⟩ ⟨Nat.le_of_ble_eq_true rfl, Nat.le_of_ble_eq_true rfl⟩ rfl hl.1 rfl (Nat.le_of_ble_eq_true rfl) (t_room hI) dX0_days_4 (fun v1 hf => ?_)
  refine b_ifeq (tgt := 25) hx hb hf dX0_days_7 (by decide) (fun hf => ?_) (fun hf => ?_)
  · refine lv_iconst (v := (-1)) hx hb dX0_days_25 (by decide) ?_
    exact tE_iret hW C hI hf dX0_days_26
  · refine lv_aload_n hx hb dX0_days_10 rfl (lv_at hl 0 rfl) ?_
    refine tgX0_152 C hI dX0_days_11 ?_
    refine tgX0_395 C hI (tI.l3 hI (by decide)) dX0_days_14 ?_
    refine lv_iload_n hx hb dX0_days_17 rfl (lv_at hl 1 rfl) ?_
    refine lv_iadd hx hb dX0_days_18 ?_
    refine lv_sipush (v := 9999) hx hb dX0_days_19 (by decide) ?_
    refine b_icle (tgt := 27) hx hb hf dX0_days_22 (by decide) (fun hf => ?_) (fun hf => ?_)
    · refine lv_iconst (v := 0) hx hb dX0_days_27 (by decide) ?_
      refine lv_istore_n (lv' := [(2, .int 0), (0, .ref (wa w 37)), (1, .int l1)]) hx hb dX0_days_28 rfl hl (by decide) rfl (fun ls hl => ?_)
      refine lv_iconst (v := 0) hx hb dX0_days_29 (by decide) ?_
      refine lv_istore_n (lv' := [(3, .int 0), (2, .int 0), (0, .ref (wa w 37)), (1, .int l1)]) hx hb dX0_days_30 rfl hl (by decide) rfl (fun ls hl => ?_)
      exact w_fT_days_b31 N _ g x l1 0 0 _ _ _ hW C hI (lv_sub hl [2, 3, 1, 0] rfl) hf
    · refine lv_iconst (v := (-1)) hx hb dX0_days_25 (by decide) ?_
      exact tE_iret hW C hI hf dX0_days_26
