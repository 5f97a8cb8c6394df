set_option maxRecDepth 100000
variable {p : Program} {l : Launch} {e : Env} {R : Room} {s : State} {m : MethodId} {args : Array Value} {below : List Frame} {meth : Method} {c : Code} {H : Heap} {locs : List Loc} {Q : State → Prop}
variable {w : tO} {A : Nat → Prop}
/-! TwelveChain.puts(I)V -/
abbrev frT_puts : Nat := 0
abbrev loT_puts : Nat := 0
def fT_puts_b3 (N : Nat) (B : Nat × Nat) : Nat → TS → Int32 → Int32 → Option TS
  | 0, _, _, _ => none
  | n + 1, x, l1, l2 =>
  if l2 < 0 then
    some x
  else
    (wrT x 0 (tS x 1) (vp_nar .byte ((l1 >>> (l2 &&& 31)).toInt8.toInt32))).bind fun x1 =>
    fT_puts_b3 N B n (sTS x1 1 ((tS x1 1) + 1)) l1 (l2 + (-8))
theorem w_fT_puts_b3 {N : Nat} {B : Nat × Nat} {xr : TS} (C : tCx w A p s m args meth c cX0_puts 3 RX0 none) : ∀ (n : Nat) (x : TS) (l1 : Int32) (l2 : Int32) (H : Heap) (locs : List Loc) (ls : Array Slot), tI w A B x s.heap H locs → lv_has ls 3 [(0, .ref (wa w 37)), (1, .int l1), (2, .int l2)] → fT_puts_b3 N B n x l1 l2 = some xr → W p l e (tRm B frT_puts loT_puts s.heap.size (SL s.heap)) s m args below meth c H locs (tZ x - s.heap.size) (tY x - SL s.heap) (MQ below (tQ w A B none xr) args s (B.1 - s.heap.size) (B.2 - SL s.heap) A) (F0 m 3 ls []) := by
  have hx := C.1.1
  have hb := C.1.2.1
  have hown := C.1.2.2.2.1
  have hts := C.1.2.2.2.2.1
  have hE := C.2.2
  intro n
  induction n with
  | zero => intro x l1 l2 H locs ls hI hl hf; rw [fT_puts_b3] at hf; cases hf
  | succ n ih =>
  intro x l1 l2 H locs ls hI hl hf
  rw [fT_puts_b3] at hf
  refine lv_iload_n hx hb dX0_puts_3 rfl (lv_at hl 2 rfl) ?_
  refine b_iflt (tgt := 36) hx hb hf dX0_puts_4 (by decide) (fun hf => ?_) (fun hf => ?_)
  · exact t_vret C hI hf dX0_puts_36
  · refine lv_aload_n hx hb dX0_puts_7 rfl (lv_at hl 0 rfl) ?_
    refine tgX0_36 C hI dX0_puts_8 ?_
    refine lv_aload_n hx hb dX0_puts_11 rfl (lv_at hl 0 rfl) ?_
    refine tgX0_181 C hI dX0_puts_12 ?_
    refine lv_iload_n hx hb dX0_puts_15 rfl (lv_at hl 1 rfl) ?_
    refine lv_iload_n hx hb dX0_puts_16 rfl (lv_at hl 2 rfl) ?_
    refine lv_ishr hx hb dX0_puts_17 ?_
    refine lv_i2b (v := (l1 >>> (l2 &&& 31)).toInt8.toInt32) hx hb dX0_puts_18 rfl ?_
    refine t_bast C hI hf dX0_puts_19 (fun x1 H locs hI hf => ?_)
    refine lv_aload_n hx hb dX0_puts_20 rfl (lv_at hl 0 rfl) ?_
    refine lv_dup hx hb dX0_puts_21 rfl ?_
    refine tgX0_181 C hI dX0_puts_22 ?_
    refine lv_iconst (v := 1) hx hb dX0_puts_25 (by decide) ?_
    refine lv_iadd hx hb dX0_puts_26 ?_
    refine tpX0_181 C hI dX0_puts_27 (fun H locs hI => ?_)
    refine lv_iinc (v := l2 + (-8)) (lv' := [(2, .int (l2 + (-8))), (0, .ref (wa w 37)), (1, .int l1)]) hx hb dX0_puts_30 hl (k := 2) rfl rfl (by decide) rfl (fun ls hl => ?_)
    refine lv_goto (tgt := 3) hx hb dX0_puts_33 (by decide) ?_
    exact ih (sTS x1 1 ((tS x1 1) + 1)) l1 (l2 + (-8)) _ _ _ hI (lv_sub hl [1, 2, 0] rfl) hf
def fT_puts (N : Nat) (B : Nat × Nat) (x : TS) (l1 : Int32) : Option TS :=
  fT_puts_b3 N B N x l1 24
theorem tmT_puts (l : Launch) (N : Nat) {w : tO} {A : Nat → Prop} (B : Nat × Nat) : ∀ (x : TS) (l1 : Int32) (xr : TS), fT_puts N B x l1 = some xr → tMet l yX0_puts (ws_ yX0_puts cX0_puts 3 none) frT_puts loT_puts [.ref (wa w 37), .int l1] w A B x none xr := by
  intro x l1 xr hf
  refine t_start (cc := cX0_puts) (own := RX0) (by decide +kernel) rfl (Nat.le_of_ble_eq_true rfl) rfl ?_
  intro p e s m args below meth c ls H locs C hmn hI hl
  have hx := C.1.1
  have hb := C.1.2.1
  have hown := C.1.2.2.2.1
  have hts := C.1.2.2.2.2.1
  have hE := C.2.2
  rw [fT_puts] at hf
  refine lv_bipush (v := 24) hx hb dX0_puts_0 (by decide) ?_
  refine lv_istore_n (lv' := [(2, .int 24), (0, .ref (wa w 37)), (1, .int l1)]) hx hb dX0_puts_2 rfl hl (by decide) rfl (fun ls hl => ?_)
  exact w_fT_puts_b3 C N x l1 24 _ _ _ hI (lv_sub hl [1, 2, 0] rfl) hf
/-! TwelveChain.feed(IIIII)I -/
abbrev frT_feed : Nat := 1
abbrev loT_feed : Nat := 22
def fT_feed (N : Nat) (B : Nat × Nat) (x : TS) (l1 : Int32) (l2 : Int32) (l3 : Int32) (l4 : Int32) (l5 : Int32) : Option (Int32 × TS) :=
  if ((tS x 1) + 20) ≤ 400 then
    (fT_puts N B x l1).bind fun x1 =>
    (fT_puts N B x1 l2).bind fun x2 =>
    (fT_puts N B x2 l3).bind fun x3 =>
    (fT_puts N B x3 l4).bind fun x4 =>
    (fT_puts N B x4 l5).bind fun x5 =>
    some (tS x5 1, x5)
  else
    some ((-1), x)
theorem tmT_feed (l : Launch) (N : Nat) {w : tO} {A : Nat → Prop} (B : Nat × Nat) : ∀ (x : TS) (l1 : Int32) (l2 : Int32) (l3 : Int32) (l4 : Int32) (l5 : Int32) (r : Int32) (xr : TS), fT_feed N B x l1 l2 l3 l4 l5 = some (r, xr) → tMet l yX0_feed (ws_ yX0_feed cX0_feed 6 (some .int)) frT_feed loT_feed [.ref (wa w 37), .int l1, .int l2, .int l3, .int l4, .int l5] w A B x (some (.int r)) xr := by
  intro x l1 l2 l3 l4 l5 r xr hf
  refine t_start (cc := cX0_feed) (own := RX0) (by decide +kernel) rfl (Nat.le_of_ble_eq_true rfl) rfl ?_
  intro p e s m args below meth c ls H locs C hmn hI hl
  have hx := C.1.1
  have hb := C.1.2.1
  have hown := C.1.2.2.2.1
  have hts := C.1.2.2.2.2.1
  have hE := C.2.2
  rw [fT_feed] at hf
  refine lv_aload_n hx hb dX0_feed_0 rfl (lv_at hl 0 rfl) ?_
  refine tgX0_181 C hI dX0_feed_1 ?_
  refine lv_bipush (v := 20) hx hb dX0_feed_4 (by decide) ?_
  refine lv_iadd hx hb dX0_feed_6 ?_
  refine lv_sipush (v := 400) hx hb dX0_feed_7 (by decide) ?_
  refine b_icle (tgt := 15) hx hb hf dX0_feed_10 (by decide) (fun hf => ?_) (fun hf => ?_)
  · refine lv_aload_n hx hb dX0_feed_15 rfl (lv_at hl 0 rfl) ?_
    refine lv_iload_n hx hb dX0_feed_16 rfl (lv_at hl 1 rfl) ?_
    refine t_cVv (rest := []) C hI hf (tmT_puts l N B _ _) (rv_main C hI) cqX0_T_puts ⟨Nat.le_of_ble_eq_true rfl, Nat.le_of_ble_eq_true rfl⟩ rfl hl.1 rfl (Nat.le_of_ble_eq_true rfl) dX0_feed_17 (fun x1 H locs hI hf => ?_)
    refine lv_aload_n hx hb dX0_feed_20 rfl (lv_at hl 0 rfl) ?_
    refine lv_iload_n hx hb dX0_feed_21 rfl (lv_at hl 2 rfl) ?_
    refine t_cVv (rest := []) C hI hf (tmT_puts l N B _ _) (rv_main C hI) cqX0_T_puts ⟨Nat.le_of_ble_eq_true rfl, Nat.le_of_ble_eq_true rfl⟩ rfl hl.1 rfl (Nat.le_of_ble_eq_true rfl) dX0_feed_22 (fun x2 H locs hI hf => ?_)
    refine lv_aload_n hx hb dX0_feed_25 rfl (lv_at hl 0 rfl) ?_
    refine lv_iload_n hx hb dX0_feed_26 rfl (lv_at hl 3 rfl) ?_
    refine t_cVv (rest := []) C hI hf (tmT_puts l N B _ _) (rv_main C hI) cqX0_T_puts ⟨Nat.le_of_ble_eq_true rfl, Nat.le_of_ble_eq_true rfl⟩ rfl hl.1 rfl (Nat.le_of_ble_eq_true rfl) dX0_feed_27 (fun x3 H locs hI hf => ?_)
    refine lv_aload_n hx hb dX0_feed_30 rfl (lv_at hl 0 rfl) ?_
    refine lv_iload hx hb dX0_feed_31 (lv_at hl 4 rfl) ?_
    refine t_cVv (rest := []) C hI hf (tmT_puts l N B _ _) (rv_main C hI) cqX0_T_puts ⟨Nat.le_of_ble_eq_true rfl, Nat.le_of_ble_eq_true rfl⟩ rfl hl.1 rfl (Nat.le_of_ble_eq_true rfl) dX0_feed_33 (fun x4 H locs hI hf => ?_)
    refine lv_aload_n hx hb dX0_feed_36 rfl (lv_at hl 0 rfl) ?_
    refine lv_iload hx hb dX0_feed_37 (lv_at hl 5 rfl) ?_
    refine t_cVv (rest := []) C hI hf (tmT_puts l N B _ _) (rv_main C hI) cqX0_T_puts ⟨Nat.le_of_ble_eq_true rfl, Nat.le_of_ble_eq_true rfl⟩ rfl hl.1 rfl (Nat.le_of_ble_eq_true rfl) dX0_feed_39 (fun x5 H locs hI hf => ?_)
    refine lv_aload_n hx hb dX0_feed_42 rfl (lv_at hl 0 rfl) ?_
    refine tgX0_181 C hI dX0_feed_43 ?_
    exact t_iret C hI hf dX0_feed_46
  · refine lv_iconst (v := (-1)) hx hb dX0_feed_13 (by decide) ?_
    exact t_iret C hI hf dX0_feed_14
/-! TwelveChain.end(I)Z -/
abbrev frT_end : Nat := 1
abbrev loT_end : Nat := 22
def fT_end (N : Nat) (B : Nat × Nat) (x : TS) (l1 : Int32) : Option (Int32 × TS) :=
  (fT_isIn N l1 0 (tS x 1)).bind fun v1 =>
  if v1 = 0 then
    some (0, x)
  else
    some (1, sTS x 1 l1)
theorem tmT_end (l : Launch) (N : Nat) {w : tO} {A : Nat → Prop} (B : Nat × Nat) : ∀ (x : TS) (l1 : Int32) (r : Int32) (xr : TS), fT_end N B x l1 = some (r, xr) → tMet l yX0_end (ws_ yX0_end cX0_end 2 (some .boolean)) frT_end loT_end [.ref (wa w 37), .int l1] w A B x (some (.int r)) xr := by
  intro x l1 r xr hf
  refine t_start (cc := cX0_end) (own := RX0) (by decide +kernel) rfl (Nat.le_of_ble_eq_true rfl) rfl ?_
  intro p e s m args below meth c ls H locs C hmn hI hl
  have hx := C.1.1
  have hb := C.1.2.1
  have hown := C.1.2.2.2.1
  have hts := C.1.2.2.2.2.1
  have hE := C.2.2
  rw [fT_end] at hf
  refine lv_iload_n hx hb dX0_end_0 rfl (lv_at hl 1 rfl) ?_
  refine lv_iconst (v := 0) hx hb dX0_end_1 (by decide) ?_
  refine lv_aload_n hx hb dX0_end_2 rfl (lv_at hl 0 rfl) ?_
  refine tgX0_181 C hI dX0_end_3 ?_
  refine g_calliS (rest := []) C.1 hf (smT_isIn l N _ _ _) cqT_T_isIn ⟨rfl, rfl⟩ ⟨Nat.le_of_ble_eq_true rfl, Nat.le_of_ble_eq_true rfl⟩ rfl hl.1 rfl (Nat.le_of_ble_eq_true rfl) (t_room hI) dX0_end_6 (fun v1 hf => ?_)
  refine b_ifne (tgt := 14) hx hb hf dX0_end_9 (by decide) (fun hf => ?_) (fun hf => ?_)
  · refine lv_aload_n hx hb dX0_end_14 rfl (lv_at hl 0 rfl) ?_
    refine lv_iload_n hx hb dX0_end_15 rfl (lv_at hl 1 rfl) ?_
    refine tpX0_181 C hI dX0_end_16 (fun H locs hI => ?_)
    refine lv_iconst (v := 1) hx hb dX0_end_19 (by decide) ?_
    exact t_zretc C hI zb_1 hf dX0_end_20
  · refine lv_iconst (v := 0) hx hb dX0_end_12 (by decide) ?_
    exact t_zretc C hI zb_0 hf dX0_end_13
/-! TwelveChain.raw(I)I -/
abbrev frT_raw : Nat := 0
abbrev loT_raw : Nat := 0
def fT_raw (N : Nat) (B : Nat × Nat) (x : TS) (l1 : Int32) : Option (Int32 × TS) :=
  if (tS x 1) ≤ l1 then
    some ((-1), x)
  else
    (rd 400 (tA x 0) l1).bind fun v1 =>
    some (v1 &&& 255, x)
theorem tmT_raw (l : Launch) (N : Nat) {w : tO} {A : Nat → Prop} (B : Nat × Nat) : ∀ (x : TS) (l1 : Int32) (r : Int32) (xr : TS), fT_raw N B x l1 = some (r, xr) → tMet l yX0_raw (ws_ yX0_raw cX0_raw 2 (some .int)) frT_raw loT_raw [.ref (wa w 37), .int l1] w A B x (some (.int r)) xr := by
  intro x l1 r xr hf
  refine t_start (cc := cX0_raw) (own := RX0) (by decide +kernel) rfl (Nat.le_of_ble_eq_true rfl) rfl ?_
  intro p e s m args below meth c ls H locs C hmn hI hl
  have hx := C.1.1
  have hb := C.1.2.1
  have hown := C.1.2.2.2.1
  have hts := C.1.2.2.2.2.1
  have hE := C.2.2
  rw [fT_raw] at hf
  refine lv_iload_n hx hb dX0_raw_0 rfl (lv_at hl 1 rfl) ?_
  refine lv_aload_n hx hb dX0_raw_1 rfl (lv_at hl 0 rfl) ?_
  refine tgX0_181 C hI dX0_raw_2 ?_
  refine b_icge (tgt := 21) hx hb hf dX0_raw_5 (by decide) (fun hf => ?_) (fun hf => ?_)
  · refine lv_iconst (v := (-1)) hx hb dX0_raw_21 (by decide) ?_
    exact t_iret C hI hf dX0_raw_22
  · refine lv_aload_n hx hb dX0_raw_8 rfl (lv_at hl 0 rfl) ?_
    refine tgX0_36 C hI dX0_raw_9 ?_
    refine lv_iload_n hx hb dX0_raw_12 rfl (lv_at hl 1 rfl) ?_
    refine t_bald C hI hf dX0_raw_13 (fun v1 hf => ?_)
    refine lv_sipush (v := 255) hx hb dX0_raw_14 (by decide) ?_
    refine lv_iand hx hb dX0_raw_17 ?_
    refine lv_goto (tgt := 22) hx hb dX0_raw_18 (by decide) ?_
    exact t_iret C hI hf dX0_raw_22
/-! TwelveChain.spells(Ljava/lang/String;)Z -/
abbrev frT_spells : Nat := 4
abbrev loT_spells : Nat := 85
def fT_spells_b20 (N : Nat) (B : Nat × Nat) : Nat → TS → sIx → Int32 → Option (Int32 × TS)
  | 0, _, _, _ => none
  | n + 1, x, l1, l2 =>
  (fJs_length N l1 ).bind fun v1 =>
  if v1 ≤ l2 then
    some (1, x)
  else
    b2 (fT_raw N B x ((tS x 11) + l2)) fun v3 x2 =>
    (fJs_charAt N l1 l2).bind fun v4 =>
    if v3 = v4 then
      fT_spells_b20 N B n x2 l1 (l2 + 1)
    else
      some (0, x2)
theorem w_fT_spells_b20 {N : Nat} {B : Nat × Nat} {r : Int32} {xr : TS} (C : tCx w A p s m args meth c cX0_spells 3 RX0 (some .boolean)) : ∀ (n : Nat) (x : TS) (l1 : sIx) (l2 : Int32) (H : Heap) (locs : List Loc) (ls : Array Slot), l1 < 25 → tI w A B x s.heap H locs → lv_has ls 3 [(0, .ref (wa w 37)), (1, .ref ((wk w).1 l1)), (2, .int l2)] → fT_spells_b20 N B n x l1 l2 = some (r, xr) → W p l e (tRm B frT_spells loT_spells s.heap.size (SL s.heap)) s m args below meth c H locs (tZ x - s.heap.size) (tY x - SL s.heap) (MQ below (tQ w A B (some (.int r)) xr) args s (B.1 - s.heap.size) (B.2 - SL s.heap) A) (F0 m 20 ls []) := by
  have hx := C.1.1
  have hb := C.1.2.1
  have hown := C.1.2.2.2.1
  have hts := C.1.2.2.2.2.1
  have hE := C.2.2
  intro n
  induction n with
  | zero => intro x l1 l2 H locs ls hi_l1 hI hl hf; rw [fT_spells_b20] at hf; cases hf
  | succ n ih =>
  intro x l1 l2 H locs ls hi_l1 hI hl hf
  rw [fT_spells_b20] at hf
  refine lv_iload_n hx hb dX0_spells_20 rfl (lv_at hl 2 rfl) ?_
  refine lv_aload_n hx hb dX0_spells_21 rfl (lv_at hl 1 rfl) ?_
  refine j_calli (rest := [.int l2]) C.1 hE.1 hI.2.2.1 hi_l1 hf (smJs_length l N hi_l1) rfl cqT_Js_length ⟨rfl, rfl⟩ ⟨Nat.le_of_ble_eq_true rfl, Nat.le_of_ble_eq_true rfl⟩ rfl hl.1 rfl (Nat.le_of_ble_eq_true rfl) (t_room hI) dX0_spells_22 (fun v1 hf => ?_)
  refine b_icge (tgt := 54) hx hb hf dX0_spells_25 (by decide) (fun hf => ?_) (fun hf => ?_)
  · refine lv_iconst (v := 1) hx hb dX0_spells_54 (by decide) ?_
    exact t_zretc C hI zb_1 hf dX0_spells_55
  · refine lv_aload_n hx hb dX0_spells_28 rfl (lv_at hl 0 rfl) ?_
    refine lv_aload_n hx hb dX0_spells_29 rfl (lv_at hl 0 rfl) ?_
    refine tgX0_199 C hI dX0_spells_30 ?_
    refine lv_iload_n hx hb dX0_spells_33 rfl (lv_at hl 2 rfl) ?_
    refine lv_iadd hx hb dX0_spells_34 ?_
    refine t_cVi (rest := []) C hI hf (tmT_raw l N B _ _) (rv_main C hI) cqX0_T_raw ⟨Nat.le_of_ble_eq_true rfl, Nat.le_of_ble_eq_true rfl⟩ rfl hl.1 rfl (Nat.le_of_ble_eq_true rfl) dX0_spells_35 (fun v3 x2 H locs hI hf => ?_)
    refine lv_aload_n hx hb dX0_spells_38 rfl (lv_at hl 1 rfl) ?_
    refine lv_iload_n hx hb dX0_spells_39 rfl (lv_at hl 2 rfl) ?_
    refine j_calli (rest := [.int v3]) C.1 hE.1 hI.2.2.1 hi_l1 hf (smJs_charAt l N hi_l1 _) rfl cqT_Js_charAt ⟨rfl, rfl⟩ ⟨Nat.le_of_ble_eq_true rfl, Nat.le_of_ble_eq_true rfl⟩ rfl hl.1 rfl (Nat.le_of_ble_eq_true rfl) (t_room hI) dX0_spells_40 (fun v4 hf => ?_)
    refine b_iceq (tgt := 48) hx hb hf dX0_spells_43 (by decide) (fun hf => ?_) (fun hf => ?_)
    · refine lv_iinc (v := l2 + 1) (lv' := [(2, .int (l2 + 1)), (0, .ref (wa w 37)), (1, .ref ((wk w).1 l1))]) hx hb dX0_spells_48 hl (k := 2) rfl rfl (by decide) rfl (fun ls hl => ?_)
      refine lv_goto (tgt := 20) hx hb dX0_spells_51 (by decide) ?_
      exact ih x2 l1 (l2 + 1) _ _ _ hi_l1 hI (lv_sub hl [1, 2, 0] rfl) hf
    · refine lv_iconst (v := 0) hx hb dX0_spells_46 (by decide) ?_
      exact t_zretc C hI zb_0 hf dX0_spells_47
def fT_spells (N : Nat) (B : Nat × Nat) (x : TS) (l1 : sIx) : Option (Int32 × TS) :=
  (fJs_length N l1 ).bind fun v1 =>
  if v1 = ((tS x 10) - (tS x 11)) then
    fT_spells_b20 N B N x l1 0
  else
    some (0, x)
theorem tmT_spells (l : Launch) (N : Nat) {w : tO} {A : Nat → Prop} (B : Nat × Nat) {l1 : Nat} (hi_l1 : l1 < 25) : ∀ (x : TS) (r : Int32) (xr : TS), fT_spells N B x l1 = some (r, xr) → tMet l yX0_spells (ws_ yX0_spells cX0_spells 3 (some .boolean)) frT_spells loT_spells [.ref (wa w 37), .ref ((wk w).1 l1)] w A B x (some (.int r)) xr := by
  intro x  r xr hf
  refine t_start (cc := cX0_spells) (own := RX0) (by decide +kernel) rfl (Nat.le_of_ble_eq_true rfl) rfl ?_
  intro p e s m args below meth c ls H locs C hmn hI hl
  have hx := C.1.1
  have hb := C.1.2.1
  have hown := C.1.2.2.2.1
  have hts := C.1.2.2.2.2.1
  have hE := C.2.2
  rw [fT_spells] at hf
  refine lv_aload_n hx hb dX0_spells_0 rfl (lv_at hl 1 rfl) ?_
  refine j_calli (rest := []) C.1 hE.1 hI.2.2.1 hi_l1 hf (smJs_length l N hi_l1) rfl cqT_Js_length ⟨rfl, rfl⟩ ⟨Nat.le_of_ble_eq_true rfl, Nat.le_of_ble_eq_true rfl⟩ rfl hl.1 rfl (Nat.le_of_ble_eq_true rfl) (t_room hI) dX0_spells_1 (fun v1 hf => ?_)
  refine lv_aload_n hx hb dX0_spells_4 rfl (lv_at hl 0 rfl) ?_
  refine tgX0_196 C hI dX0_spells_5 ?_
  refine lv_aload_n hx hb dX0_spells_8 rfl (lv_at hl 0 rfl) ?_
  refine tgX0_199 C hI dX0_spells_9 ?_
  refine lv_isub hx hb dX0_spells_12 ?_
  refine b_iceq (tgt := 18) hx hb hf dX0_spells_13 (by decide) (fun hf => ?_) (fun hf => ?_)
  · refine lv_iconst (v := 0) hx hb dX0_spells_18 (by decide) ?_
    refine lv_istore_n (lv' := [(2, .int 0), (0, .ref (wa w 37)), (1, .ref ((wk w).1 l1))]) hx hb dX0_spells_19 rfl hl (by decide) rfl (fun ls hl => ?_)
    exact w_fT_spells_b20 C N x l1 0 _ _ _ hi_l1 hI (lv_sub hl [1, 2, 0] rfl) hf
  · refine lv_iconst (v := 0) hx hb dX0_spells_16 (by decide) ?_
    exact t_zretc C hI zb_0 hf dX0_spells_17
/-! TwelveChain.wordOf([Ljava/lang/String;)I -/
abbrev frT_wordOf : Nat := 5
abbrev loT_wordOf : Nat := 107
def fT_wordOf_b2 (N : Nat) (B : Nat × Nat) : Nat → TS → Nat → Int32 → Option (Int32 × TS)
  | 0, _, _, _ => none
  | n + 1, x, l1, l2 =>
  (wlen l1).bind fun v1 =>
  if v1 ≤ l2 then
    some ((-1), x)
  else
    (tok (tW x 9)).bind fun k2 =>
    if k2 = 2 then
      (wget l1 l2).bind fun t3 =>
      b2 (fT_spells N B x t3) fun v5 x4 =>
      if v5 = 0 then
        fT_wordOf_b2 N B n x4 l1 (l2 + 1)
      else
        some (l2, x4)
    else
      some ((-1), x)
theorem w_fT_wordOf_b2 {N : Nat} {B : Nat × Nat} {r : Int32} {xr : TS} (C : tCx w A p s m args meth c cX0_wordOf 3 RX0 (some .int)) : ∀ (n : Nat) (x : TS) (l1 : Nat) (l2 : Int32) (H : Heap) (locs : List Loc) (ls : Array Slot), tI w A B x s.heap H locs → lv_has ls 3 [(0, .ref (wa w 37)), (1, .ref (wa w (40 + l1))), (2, .int l2)] → fT_wordOf_b2 N B n x l1 l2 = some (r, xr) → W p l e (tRm B frT_wordOf loT_wordOf s.heap.size (SL s.heap)) s m args below meth c H locs (tZ x - s.heap.size) (tY x - SL s.heap) (MQ below (tQ w A B (some (.int r)) xr) args s (B.1 - s.heap.size) (B.2 - SL s.heap) A) (F0 m 2 ls []) := by
  have hx := C.1.1
  have hb := C.1.2.1
  have hown := C.1.2.2.2.1
  have hts := C.1.2.2.2.2.1
  have hE := C.2.2
  intro n
  induction n with
  | zero => intro x l1 l2 H locs ls hI hl hf; rw [fT_wordOf_b2] at hf; cases hf
  | succ n ih =>
  intro x l1 l2 H locs ls hI hl hf
  rw [fT_wordOf_b2] at hf
  refine lv_iload_n hx hb dX0_wordOf_2 rfl (lv_at hl 2 rfl) ?_
  refine lv_aload_n hx hb dX0_wordOf_3 rfl (lv_at hl 1 rfl) ?_
  refine t_wlen C hI hf dX0_wordOf_4 (fun v1 hf => ?_)
  refine b_icge (tgt := 36) hx hb hf dX0_wordOf_5 (by decide) (fun hf => ?_) (fun hf => ?_)
  · refine lv_iconst (v := (-1)) hx hb dX0_wordOf_36 (by decide) ?_
    exact t_iret C hI hf dX0_wordOf_37
  · refine lv_aload_n hx hb dX0_wordOf_8 rfl (lv_at hl 0 rfl) ?_
    refine t_tok C hI hf q316 dX0_wordOf_9 (fun k2 hi_k2 hf => ?_)
    refine t_gtok (i := 2) C hI (by decide) rfl q465 dX0_wordOf_12 ?_
    refine b_acne (i := k2) (j := 2) (tgt := 36) C hi_k2 (by decide) hf dX0_wordOf_15 (by decide) (fun hf => ?_) (fun hf => ?_)
    · refine lv_iconst (v := (-1)) hx hb dX0_wordOf_36 (by decide) ?_
      exact t_iret C hI hf dX0_wordOf_37
    · refine lv_aload_n hx hb dX0_wordOf_18 rfl (lv_at hl 0 rfl) ?_
      refine lv_aload_n hx hb dX0_wordOf_19 rfl (lv_at hl 1 rfl) ?_
      refine lv_iload_n hx hb dX0_wordOf_20 rfl (lv_at hl 2 rfl) ?_
      refine t_wald C hI hf dX0_wordOf_21 (fun t3 hi_t3 hf => ?_)
      refine t_cVi (rest := []) C hI hf (tmT_spells l N B hi_t3 _) (rv_main C hI) cqX0_T_spells ⟨Nat.le_of_ble_eq_true rfl, Nat.le_of_ble_eq_true rfl⟩ rfl hl.1 rfl (Nat.le_of_ble_eq_true rfl) dX0_wordOf_22 (fun v5 x4 H locs hI hf => ?_)
      refine b_ifeq (tgt := 30) hx hb hf dX0_wordOf_25 (by decide) (fun hf => ?_) (fun hf => ?_)
      · refine lv_iinc (v := l2 + 1) (lv' := [(2, .int (l2 + 1)), (0, .ref (wa w 37)), (1, .ref (wa w (40 + l1)))]) hx hb dX0_wordOf_30 hl (k := 2) rfl rfl (by decide) rfl (fun ls hl => ?_)
        refine lv_goto (tgt := 2) hx hb dX0_wordOf_33 (by decide) ?_
        exact ih x4 l1 (l2 + 1) _ _ _ hI (lv_sub hl [1, 2, 0] rfl) hf
      · refine lv_iload_n hx hb dX0_wordOf_28 rfl (lv_at hl 2 rfl) ?_
        exact t_iret C hI hf dX0_wordOf_29
def fT_wordOf (N : Nat) (B : Nat × Nat) (x : TS) (l1 : Nat) : Option (Int32 × TS) :=
  fT_wordOf_b2 N B N x l1 0
theorem tmT_wordOf (l : Launch) (N : Nat) {w : tO} {A : Nat → Prop} (B : Nat × Nat) : ∀ (x : TS) (l1 : Nat) (r : Int32) (xr : TS), fT_wordOf N B x l1 = some (r, xr) → tMet l yX0_wordOf (ws_ yX0_wordOf cX0_wordOf 3 (some .int)) frT_wordOf loT_wordOf [.ref (wa w 37), .ref (wa w (40 + l1))] w A B x (some (.int r)) xr := by
  intro x l1 r xr hf
  refine t_start (cc := cX0_wordOf) (own := RX0) (by decide +kernel) rfl (Nat.le_of_ble_eq_true rfl) rfl ?_
  intro p e s m args below meth c ls H locs C hmn hI hl
  have hx := C.1.1
  have hb := C.1.2.1
  have hown := C.1.2.2.2.1
  have hts := C.1.2.2.2.2.1
  have hE := C.2.2
  rw [fT_wordOf] at hf
  refine lv_iconst (v := 0) hx hb dX0_wordOf_0 (by decide) ?_
  refine lv_istore_n (lv' := [(2, .int 0), (0, .ref (wa w 37)), (1, .ref (wa w (40 + l1)))]) hx hb dX0_wordOf_1 rfl hl (by decide) rfl (fun ls hl => ?_)
  exact w_fT_wordOf_b2 C N x l1 0 _ _ _ hI (lv_sub hl [1, 2, 0] rfl) hf
/-! TwelveChain.readNext()V -/
abbrev frT_readNext : Nat := 6
abbrev loT_readNext : Nat := 129
def fT_readNext_b97 (N : Nat) (B : Nat × Nat) : Nat → TS → Option TS
  | 0, _ => none
  | n + 1, x =>
  b2 (fT_raw N B x (tS x 10)) fun v2 x1 =>
  (fT_isLetter N v2).bind fun v3 =>
  if v3 = 0 then
    b2 (fT_wordOf N B (sTW x1 9 2) (tW (sTW x1 9 2) 6)) fun v5 x4 =>
    if v5 = (-1) then
      b2 (fT_wordOf N B x4 (tW x4 7)) fun v7 x6 =>
      if v7 = (-1) then
        b2 (fT_wordOf N B x6 (tW x6 8)) fun v9 x8 =>
        if v9 = (-1) then
          some (sTW x8 9 1)
        else
          some x8
      else
        some x6
    else
      some x4
  else
    fT_readNext_b97 N B n (sTS x1 10 ((tS x1 10) + 1))
theorem w_fT_readNext_b97 {N : Nat} {B : Nat × Nat} {xr : TS} (C : tCx w A p s m args meth c cX0_readNext 2 RX0 none) : ∀ (n : Nat) (x : TS) (H : Heap) (locs : List Loc) (ls : Array Slot), tI w A B x s.heap H locs → lv_has ls 2 [(0, .ref (wa w 37))] → fT_readNext_b97 N B n x = some xr → W p l e (tRm B frT_readNext loT_readNext s.heap.size (SL s.heap)) s m args below meth c H locs (tZ x - s.heap.size) (tY x - SL s.heap) (MQ below (tQ w A B none xr) args s (B.1 - s.heap.size) (B.2 - SL s.heap) A) (F0 m 97 ls []) := by
  have hx := C.1.1
  have hb := C.1.2.1
  have hown := C.1.2.2.2.1
  have hts := C.1.2.2.2.2.1
  have hE := C.2.2
  intro n
  induction n with
  | zero => intro x H locs ls hI hl hf; rw [fT_readNext_b97] at hf; cases hf
  | succ n ih =>
  intro x H locs ls hI hl hf
  rw [fT_readNext_b97] at hf
  refine lv_aload_n hx hb dX0_readNext_97 rfl (lv_at hl 0 rfl) ?_
  refine lv_aload_n hx hb dX0_readNext_98 rfl (lv_at hl 0 rfl) ?_
  refine tgX0_196 C hI dX0_readNext_99 ?_
  refine t_cVi (rest := []) C hI hf (tmT_raw l N B _ _) (rv_main C hI) cqX0_T_raw ⟨Nat.le_of_ble_eq_true rfl, Nat.le_of_ble_eq_true rfl⟩ rfl hl.1 rfl (Nat.le_of_ble_eq_true rfl) dX0_readNext_102 (fun v2 x1 H locs hI hf => ?_)
  refine g_calliS (rest := []) C.1 hf (smT_isLetter l N _) cqT_T_isLetter ⟨rfl, rfl⟩ ⟨Nat.le_of_ble_eq_true rfl, Nat.le_of_ble_eq_true rfl⟩ rfl hl.1 rfl (Nat.le_of_ble_eq_true rfl) (t_room hI) dX0_readNext_105 (fun v3 hf => ?_)
  refine b_ifeq (tgt := 124) hx hb hf dX0_readNext_108 (by decide) (fun hf => ?_) (fun hf => ?_)
  · refine lv_aload_n hx hb dX0_readNext_124 rfl (lv_at hl 0 rfl) ?_
    refine t_gtok (i := 2) C hI (by decide) rfl q465 dX0_readNext_125 ?_
    refine t_putTok C hI (by decide) q316 dX0_readNext_128 (fun H locs hI => ?_)
    refine lv_aload_n hx hb dX0_readNext_131 rfl (lv_at hl 0 rfl) ?_
    refine lv_aload_n hx hb dX0_readNext_132 rfl (lv_at hl 0 rfl) ?_
    refine tgX0_105 C hI dX0_readNext_133 ?_
    refine t_cVi (rest := []) C hI hf (tmT_wordOf l N B _ _) (rv_main C hI) cqX0_T_wordOf ⟨Nat.le_of_ble_eq_true rfl, Nat.le_of_ble_eq_true rfl⟩ rfl hl.1 rfl (Nat.le_of_ble_eq_true rfl) dX0_readNext_136 (fun v5 x4 H locs hI hf => ?_)
    refine lv_iconst (v := (-1)) hx hb dX0_readNext_139 (by decide) ?_
    refine b_icne (tgt := 291) hx hb hf dX0_readNext_140 (by decide) (fun hf => ?_) (fun hf => ?_)
    · exact t_vret C hI hf dX0_readNext_291
    · refine lv_aload_n hx hb dX0_readNext_143 rfl (lv_at hl 0 rfl) ?_
      refine lv_aload_n hx hb dX0_readNext_144 rfl (lv_at hl 0 rfl) ?_
      refine tgX0_108 C hI dX0_readNext_145 ?_
      refine t_cVi (rest := []) C hI hf (tmT_wordOf l N B _ _) (rv_main C hI) cqX0_T_wordOf ⟨Nat.le_of_ble_eq_true rfl, Nat.le_of_ble_eq_true rfl⟩ rfl hl.1 rfl (Nat.le_of_ble_eq_true rfl) dX0_readNext_148 (fun v7 x6 H locs hI hf => ?_)
      refine lv_iconst (v := (-1)) hx hb dX0_readNext_151 (by decide) ?_
      refine b_icne (tgt := 291) hx hb hf dX0_readNext_152 (by decide) (fun hf => ?_) (fun hf => ?_)
      · exact t_vret C hI hf dX0_readNext_291
      · refine lv_aload_n hx hb dX0_readNext_155 rfl (lv_at hl 0 rfl) ?_
        refine lv_aload_n hx hb dX0_readNext_156 rfl (lv_at hl 0 rfl) ?_
        refine tgX0_111 C hI dX0_readNext_157 ?_
        refine t_cVi (rest := []) C hI hf (tmT_wordOf l N B _ _) (rv_main C hI) cqX0_T_wordOf ⟨Nat.le_of_ble_eq_true rfl, Nat.le_of_ble_eq_true rfl⟩ rfl hl.1 rfl (Nat.le_of_ble_eq_true rfl) dX0_readNext_160 (fun v9 x8 H locs hI hf => ?_)
        refine lv_iconst (v := (-1)) hx hb dX0_readNext_163 (by decide) ?_
        refine b_icne (tgt := 291) hx hb hf dX0_readNext_164 (by decide) (fun hf => ?_) (fun hf => ?_)
        · exact t_vret C hI hf dX0_readNext_291
        · refine lv_aload_n hx hb dX0_readNext_167 rfl (lv_at hl 0 rfl) ?_
          refine t_gtok (i := 1) C hI (by decide) rfl q460 dX0_readNext_168 ?_
          refine t_putTok C hI (by decide) q316 dX0_readNext_171 (fun H locs hI => ?_)
          refine lv_goto (tgt := 291) hx hb dX0_readNext_174 (by decide) ?_
          exact t_vret C hI hf dX0_readNext_291
  · refine lv_aload_n hx hb dX0_readNext_111 rfl (lv_at hl 0 rfl) ?_
    refine lv_dup hx hb dX0_readNext_112 rfl ?_
    refine tgX0_196 C hI dX0_readNext_113 ?_
    refine lv_iconst (v := 1) hx hb dX0_readNext_116 (by decide) ?_
    refine lv_iadd hx hb dX0_readNext_117 ?_
    refine tpX0_196 C hI dX0_readNext_118 (fun H locs hI => ?_)
    refine lv_goto (tgt := 97) hx hb dX0_readNext_121 (by decide) ?_
    exact ih (sTS x1 10 ((tS x1 10) + 1)) _ _ _ hI (lv_sub hl [0] rfl) hf
def fT_readNext_b192 (N : Nat) (B : Nat × Nat) : Nat → TS → Option TS
  | 0, _ => none
  | n + 1, x =>
  b2 (fT_raw N B x (tS x 10)) fun v2 x1 =>
  (fT_isDigit N v2).bind fun v3 =>
  if v3 = 0 then
    if 4 < ((tS x1 10) - (tS x1 11)) then
      some x1
    else
      some (sTW x1 9 3)
  else
    b2 (fT_raw N B x1 (tS x1 10)) fun v5 x4 =>
    (fJm_min N 99999 (((10 * (tS x1 12)) + v5) - 48)).bind fun v6 =>
    fT_readNext_b192 N B n (sTS (sTS x4 12 v6) 10 ((tS (sTS x4 12 v6) 10) + 1))
theorem w_fT_readNext_b192 {N : Nat} {B : Nat × Nat} {xr : TS} (C : tCx w A p s m args meth c cX0_readNext 2 RX0 none) : ∀ (n : Nat) (x : TS) (H : Heap) (locs : List Loc) (ls : Array Slot), tI w A B x s.heap H locs → lv_has ls 2 [(0, .ref (wa w 37))] → fT_readNext_b192 N B n x = some xr → W p l e (tRm B frT_readNext loT_readNext s.heap.size (SL s.heap)) s m args below meth c H locs (tZ x - s.heap.size) (tY x - SL s.heap) (MQ below (tQ w A B none xr) args s (B.1 - s.heap.size) (B.2 - SL s.heap) A) (F0 m 192 ls []) := by
  have hx := C.1.1
  have hb := C.1.2.1
  have hown := C.1.2.2.2.1
  have hts := C.1.2.2.2.2.1
  have hE := C.2.2
  intro n
  induction n with
  | zero => intro x H locs ls hI hl hf; rw [fT_readNext_b192] at hf; cases hf
  | succ n ih =>
  intro x H locs ls hI hl hf
  rw [fT_readNext_b192] at hf
  refine lv_aload_n hx hb dX0_readNext_192 rfl (lv_at hl 0 rfl) ?_
  refine lv_aload_n hx hb dX0_readNext_193 rfl (lv_at hl 0 rfl) ?_
  refine tgX0_196 C hI dX0_readNext_194 ?_
  refine t_cVi (rest := []) C hI hf (tmT_raw l N B _ _) (rv_main C hI) cqX0_T_raw ⟨Nat.le_of_ble_eq_true rfl, Nat.le_of_ble_eq_true rfl⟩ rfl hl.1 rfl (Nat.le_of_ble_eq_true rfl) dX0_readNext_197 (fun v2 x1 H locs hI hf => ?_)
  refine g_calliS (rest := []) C.1 hf (smT_isDigit l N _) cqT_T_isDigit ⟨rfl, rfl⟩ ⟨Nat.le_of_ble_eq_true rfl, Nat.le_of_ble_eq_true rfl⟩ rfl hl.1 rfl (Nat.le_of_ble_eq_true rfl) (t_room hI) dX0_readNext_200 (fun v3 hf => ?_)
  refine b_ifeq (tgt := 247) hx hb hf dX0_readNext_203 (by decide) (fun hf => ?_) (fun hf => ?_)
  · refine lv_aload_n hx hb dX0_readNext_247 rfl (lv_at hl 0 rfl) ?_
    refine tgX0_196 C hI dX0_readNext_248 ?_
    refine lv_aload_n hx hb dX0_readNext_251 rfl (lv_at hl 0 rfl) ?_
    refine tgX0_199 C hI dX0_readNext_252 ?_
    refine lv_isub hx hb dX0_readNext_255 ?_
    refine lv_iconst (v := 4) hx hb dX0_readNext_256 (by decide) ?_
    refine b_icgt (tgt := 291) hx hb hf dX0_readNext_257 (by decide) (fun hf => ?_) (fun hf => ?_)
    · exact t_vret C hI hf dX0_readNext_291
    · refine lv_aload_n hx hb dX0_readNext_260 rfl (lv_at hl 0 rfl) ?_
      refine t_gtok (i := 3) C hI (by decide) rfl q530 dX0_readNext_261 ?_
      refine t_putTok C hI (by decide) q316 dX0_readNext_264 (fun H locs hI => ?_)
      refine lv_goto (tgt := 291) hx hb dX0_readNext_267 (by decide) ?_
      exact t_vret C hI hf dX0_readNext_291
  · refine lv_aload_n hx hb dX0_readNext_206 rfl (lv_at hl 0 rfl) ?_
    refine lv_ldc hx hb hown (hts _ q526) dX0_readNext_207 ?_
    refine lv_bipush (v := 10) hx hb dX0_readNext_209 (by decide) ?_
    refine lv_aload_n hx hb dX0_readNext_211 rfl (lv_at hl 0 rfl) ?_
    refine tgX0_224 C hI dX0_readNext_212 ?_
    refine lv_imul hx hb dX0_readNext_215 ?_
    refine lv_aload_n hx hb dX0_readNext_216 rfl (lv_at hl 0 rfl) ?_
    refine lv_aload_n hx hb dX0_readNext_217 rfl (lv_at hl 0 rfl) ?_
    refine tgX0_196 C hI dX0_readNext_218 ?_
    refine t_cVi (rest := [.int (10 * (tS x1 12)), .int 99999, .ref (wa w 37)]) C hI hf (tmT_raw l N B _ _) (rv_main C hI) cqX0_T_raw ⟨Nat.le_of_ble_eq_true rfl, Nat.le_of_ble_eq_true rfl⟩ rfl hl.1 rfl (Nat.le_of_ble_eq_true rfl) dX0_readNext_221 (fun v5 x4 H locs hI hf => ?_)
    refine lv_iadd hx hb dX0_readNext_224 ?_
    refine lv_bipush (v := 48) hx hb dX0_readNext_225 (by decide) ?_
    refine lv_isub hx hb dX0_readNext_227 ?_
    refine g_calliS (rest := [.ref (wa w 37)]) C.1 hf (smJm_min l N _ _) cqT_Jm_min ⟨rfl, rfl⟩ ⟨Nat.le_of_ble_eq_true rfl, Nat.le_of_ble_eq_true rfl⟩ rfl hl.1 rfl (Nat.le_of_ble_eq_true rfl) (t_room hI) dX0_readNext_228 (fun v6 hf => ?_)
    refine tpX0_224 C hI dX0_readNext_231 (fun H locs hI => ?_)
    refine lv_aload_n hx hb dX0_readNext_234 rfl (lv_at hl 0 rfl) ?_
    refine lv_dup hx hb dX0_readNext_235 rfl ?_
    refine tgX0_196 C hI dX0_readNext_236 ?_
    refine lv_iconst (v := 1) hx hb dX0_readNext_239 (by decide) ?_
    refine lv_iadd hx hb dX0_readNext_240 ?_
    refine tpX0_196 C hI dX0_readNext_241 (fun H locs hI => ?_)
    refine lv_goto (tgt := 192) hx hb dX0_readNext_244 (by decide) ?_
    exact ih (sTS (sTS x4 12 v6) 10 ((tS (sTS x4 12 v6) 10) + 1)) _ _ _ hI (lv_sub hl [0] rfl) hf
def fT_readNext_b71 (N : Nat) (B : Nat × Nat) (x : TS) (l1 : Int32) (s1 : kIx) : Option TS :=
  if l1 = (-1) then
    some (sTW x 9 s1)
  else
    (fT_isLetter N l1).bind fun v1 =>
    if v1 = 0 then
      (fT_isDigit N l1).bind fun v2 =>
      if v2 = 0 then
        (fJs_indexOf N 24 l1).bind fun v3 =>
        if v3 < 0 then
          some (sTS (sTW x 9 s1) 10 ((tS (sTW x 9 s1) 10) + 1))
        else
          some (sTS (sTW (sTS (sTW x 9 s1) 10 ((tS (sTW x 9 s1) 10) + 1)) 9 4) 12 l1)
      else
        fT_readNext_b192 N B N (sTS (sTS (sTW x 9 s1) 10 ((tS (sTW x 9 s1) 10) + 1)) 12 (l1 - 48))
    else
      fT_readNext_b97 N B N (sTS (sTW x 9 s1) 10 ((tS (sTW x 9 s1) 10) + 1))
theorem w_fT_readNext_b71 {N : Nat} {B : Nat × Nat} {xr : TS} (C : tCx w A p s m args meth c cX0_readNext 2 RX0 none) : ∀ (x : TS) (l1 : Int32) (s1 : kIx) (H : Heap) (locs : List Loc) (ls : Array Slot), s1 < 5 → tI w A B x s.heap H locs → lv_has ls 2 [(0, .ref (wa w 37)), (1, .int l1)] → fT_readNext_b71 N B x l1 s1 = some xr → W p l e (tRm B frT_readNext loT_readNext s.heap.size (SL s.heap)) s m args below meth c H locs (tZ x - s.heap.size) (tY x - SL s.heap) (MQ below (tQ w A B none xr) args s (B.1 - s.heap.size) (B.2 - SL s.heap) A) (F0 m 71 ls [.ref (wt w s1), .ref (wa w 37)]) := by
  have hx := C.1.1
  have hb := C.1.2.1
  have hown := C.1.2.2.2.1
  have hts := C.1.2.2.2.2.1
  have hE := C.2.2
  intro x l1 s1 H locs ls hi_s1 hI hl hf
  rw [fT_readNext_b71] at hf
  refine t_putTok C hI hi_s1 q316 dX0_readNext_71 (fun H locs hI => ?_)
  refine lv_iload_n hx hb dX0_readNext_74 rfl (lv_at hl 1 rfl) ?_
  refine lv_iconst (v := (-1)) hx hb dX0_readNext_75 (by decide) ?_
  refine b_icne (tgt := 80) hx hb hf dX0_readNext_76 (by decide) (fun hf => ?_) (fun hf => ?_)
  · refine lv_aload_n hx hb dX0_readNext_80 rfl (lv_at hl 0 rfl) ?_
    refine lv_dup hx hb dX0_readNext_81 rfl ?_
    refine tgX0_196 C hI dX0_readNext_82 ?_
    refine lv_iconst (v := 1) hx hb dX0_readNext_85 (by decide) ?_
    refine lv_iadd hx hb dX0_readNext_86 ?_
    refine tpX0_196 C hI dX0_readNext_87 (fun H locs hI => ?_)
    refine lv_iload_n hx hb dX0_readNext_90 rfl (lv_at hl 1 rfl) ?_
    refine g_calliS (rest := []) C.1 hf (smT_isLetter l N _) cqT_T_isLetter ⟨rfl, rfl⟩ ⟨Nat.le_of_ble_eq_true rfl, Nat.le_of_ble_eq_true rfl⟩ rfl hl.1 rfl (Nat.le_of_ble_eq_true rfl) (t_room hI) dX0_readNext_91 (fun v1 hf => ?_)
    refine b_ifeq (tgt := 177) hx hb hf dX0_readNext_94 (by decide) (fun hf => ?_) (fun hf => ?_)
    · refine lv_iload_n hx hb dX0_readNext_177 rfl (lv_at hl 1 rfl) ?_
      refine g_calliS (rest := []) C.1 hf (smT_isDigit l N _) cqT_T_isDigit ⟨rfl, rfl⟩ ⟨Nat.le_of_ble_eq_true rfl, Nat.le_of_ble_eq_true rfl⟩ rfl hl.1 rfl (Nat.le_of_ble_eq_true rfl) (t_room hI) dX0_readNext_178 (fun v2 hf => ?_)
      refine b_ifeq (tgt := 270) hx hb hf dX0_readNext_181 (by decide) (fun hf => ?_) (fun hf => ?_)
      · refine va_ldcS (q := (wk w).1 24) hx hb hown (hE.2.1 (247, ";+-*/()<=>", 24) (List.mem_of_getElem? (i := 24) rfl)) dX0_readNext_270 ?_
        refine lv_iload_n hx hb dX0_readNext_272 rfl (lv_at hl 1 rfl) ?_
        refine j_calli (rest := []) C.1 hE.1 hI.2.2.1 (by decide) hf (smJs_indexOf l N (by decide) _) rfl cqT_Js_indexOf ⟨rfl, rfl⟩ ⟨Nat.le_of_ble_eq_true rfl, Nat.le_of_ble_eq_true rfl⟩ rfl hl.1 rfl (Nat.le_of_ble_eq_true rfl) (t_room hI) dX0_readNext_273 (fun v3 hf => ?_)
        refine b_iflt (tgt := 291) hx hb hf dX0_readNext_276 (by decide) (fun hf => ?_) (fun hf => ?_)
        · exact t_vret C hI hf dX0_readNext_291
        · refine lv_aload_n hx hb dX0_readNext_279 rfl (lv_at hl 0 rfl) ?_
          refine t_gtok (i := 4) C hI (by decide) rfl q590 dX0_readNext_280 ?_
          refine t_putTok C hI (by decide) q316 dX0_readNext_283 (fun H locs hI => ?_)
          refine lv_aload_n hx hb dX0_readNext_286 rfl (lv_at hl 0 rfl) ?_
          refine lv_iload_n hx hb dX0_readNext_287 rfl (lv_at hl 1 rfl) ?_
          refine tpX0_224 C hI dX0_readNext_288 (fun H locs hI => ?_)
          exact t_vret C hI hf dX0_readNext_291
      · refine lv_aload_n hx hb dX0_readNext_184 rfl (lv_at hl 0 rfl) ?_
        refine lv_iload_n hx hb dX0_readNext_185 rfl (lv_at hl 1 rfl) ?_
        refine lv_bipush (v := 48) hx hb dX0_readNext_186 (by decide) ?_
        refine lv_isub hx hb dX0_readNext_188 ?_
        refine tpX0_224 C hI dX0_readNext_189 (fun H locs hI => ?_)
        exact w_fT_readNext_b192 C N (sTS (sTS (sTW x 9 s1) 10 ((tS (sTW x 9 s1) 10) + 1)) 12 (l1 - 48)) _ _ _ hI (lv_sub hl [0] rfl) hf
    · exact w_fT_readNext_b97 C N (sTS (sTW x 9 s1) 10 ((tS (sTW x 9 s1) 10) + 1)) _ _ _ hI (lv_sub hl [0] rfl) hf
  · exact t_vret C hI hf dX0_readNext_79
def fT_readNext_b0 (N : Nat) (B : Nat × Nat) : Nat → TS → Option TS
  | 0, _ => none
  | n + 1, x =>
  b2 (fT_raw N B x (tS x 10)) fun v2 x1 =>
  if v2 = 32 then
    fT_readNext_b0 N B n (sTS x1 10 ((tS x1 10) + 1))
  else
    b2 (fT_raw N B x1 (tS x1 10)) fun v4 x3 =>
    if v4 = 10 then
      fT_readNext_b0 N B n (sTS x3 10 ((tS x3 10) + 1))
    else
      b2 (fT_raw N B (sTS x3 11 (tS x3 10)) (tS (sTS x3 11 (tS x3 10)) 10)) fun v6 x5 =>
      if v6 = (-1) then
        fT_readNext_b71 N B x5 v6 0
      else
        fT_readNext_b71 N B x5 v6 1
theorem w_fT_readNext_b0 {N : Nat} {B : Nat × Nat} {xr : TS} (C : tCx w A p s m args meth c cX0_readNext 2 RX0 none) : ∀ (n : Nat) (x : TS) (H : Heap) (locs : List Loc) (ls : Array Slot), tI w A B x s.heap H locs → lv_has ls 2 [(0, .ref (wa w 37))] → fT_readNext_b0 N B n x = some xr → W p l e (tRm B frT_readNext loT_readNext s.heap.size (SL s.heap)) s m args below meth c H locs (tZ x - s.heap.size) (tY x - SL s.heap) (MQ below (tQ w A B none xr) args s (B.1 - s.heap.size) (B.2 - SL s.heap) A) (F0 m 0 ls []) := by
  have hx := C.1.1
  have hb := C.1.2.1
  have hown := C.1.2.2.2.1
  have hts := C.1.2.2.2.2.1
  have hE := C.2.2
  intro n
  induction n with
  | zero => intro x H locs ls hI hl hf; rw [fT_readNext_b0] at hf; cases hf
  | succ n ih =>
  intro x H locs ls hI hl hf
  rw [fT_readNext_b0] at hf
  refine lv_aload_n hx hb dX0_readNext_0 rfl (lv_at hl 0 rfl) ?_
  refine lv_aload_n hx hb dX0_readNext_1 rfl (lv_at hl 0 rfl) ?_
  refine tgX0_196 C hI dX0_readNext_2 ?_
  refine t_cVi (rest := []) C hI hf (tmT_raw l N B _ _) (rv_main C hI) cqX0_T_raw ⟨Nat.le_of_ble_eq_true rfl, Nat.le_of_ble_eq_true rfl⟩ rfl hl.1 rfl (Nat.le_of_ble_eq_true rfl) dX0_readNext_5 (fun v2 x1 H locs hI hf => ?_)
  refine lv_bipush (v := 32) hx hb dX0_readNext_8 (by decide) ?_
  refine b_iceq (tgt := 26) hx hb hf dX0_readNext_10 (by decide) (fun hf => ?_) (fun hf => ?_)
  · refine lv_aload_n hx hb dX0_readNext_26 rfl (lv_at hl 0 rfl) ?_
    refine lv_dup hx hb dX0_readNext_27 rfl ?_
    refine tgX0_196 C hI dX0_readNext_28 ?_
    refine lv_iconst (v := 1) hx hb dX0_readNext_31 (by decide) ?_
    refine lv_iadd hx hb dX0_readNext_32 ?_
    refine tpX0_196 C hI dX0_readNext_33 (fun H locs hI => ?_)
    refine lv_goto (tgt := 0) hx hb dX0_readNext_36 (by decide) ?_
    exact ih (sTS x1 10 ((tS x1 10) + 1)) _ _ _ hI (lv_sub hl [0] rfl) hf
  · refine lv_aload_n hx hb dX0_readNext_13 rfl (lv_at hl 0 rfl) ?_
    refine lv_aload_n hx hb dX0_readNext_14 rfl (lv_at hl 0 rfl) ?_
    refine tgX0_196 C hI dX0_readNext_15 ?_
    refine t_cVi (rest := []) C hI hf (tmT_raw l N B _ _) (rv_main C hI) cqX0_T_raw ⟨Nat.le_of_ble_eq_true rfl, Nat.le_of_ble_eq_true rfl⟩ rfl hl.1 rfl (Nat.le_of_ble_eq_true rfl) dX0_readNext_18 (fun v4 x3 H locs hI hf => ?_)
    refine lv_bipush (v := 10) hx hb dX0_readNext_21 (by decide) ?_
    refine b_icne (tgt := 39) hx hb hf dX0_readNext_23 (by decide) (fun hf => ?_) (fun hf => ?_)
    · refine lv_aload_n hx hb dX0_readNext_39 rfl (lv_at hl 0 rfl) ?_
      refine lv_aload_n hx hb dX0_readNext_40 rfl (lv_at hl 0 rfl) ?_
      refine tgX0_196 C hI dX0_readNext_41 ?_
      refine tpX0_199 C hI dX0_readNext_44 (fun H locs hI => ?_)
      refine lv_aload_n hx hb dX0_readNext_47 rfl (lv_at hl 0 rfl) ?_
      refine lv_aload_n hx hb dX0_readNext_48 rfl (lv_at hl 0 rfl) ?_
      refine tgX0_196 C hI dX0_readNext_49 ?_
      refine t_cVi (rest := []) C hI hf (tmT_raw l N B _ _) (rv_main C hI) cqX0_T_raw ⟨Nat.le_of_ble_eq_true rfl, Nat.le_of_ble_eq_true rfl⟩ rfl hl.1 rfl (Nat.le_of_ble_eq_true rfl) dX0_readNext_52 (fun v6 x5 H locs hI hf => ?_)
      refine lv_istore_n (lv' := [(1, .int v6), (0, .ref (wa w 37))]) hx hb dX0_readNext_55 rfl hl (by decide) rfl (fun ls hl => ?_)
      refine lv_aload_n hx hb dX0_readNext_56 rfl (lv_at hl 1 rfl) ?_
      refine lv_iload_n hx hb dX0_readNext_57 rfl (lv_at hl 0 rfl) ?_
      refine lv_iconst (v := (-1)) hx hb dX0_readNext_58 (by decide) ?_
      refine b_icne (tgt := 68) hx hb hf dX0_readNext_59 (by decide) (fun hf => ?_) (fun hf => ?_)
      · refine t_gtok (i := 1) C hI (by decide) rfl q460 dX0_readNext_68 ?_
        exact w_fT_readNext_b71 C x5 v6 1 _ _ _ (by decide) hI (lv_sub hl [1, 0] rfl) hf
      · refine t_gtok (i := 0) C hI (by decide) rfl q458 dX0_readNext_62 ?_
        refine lv_goto (tgt := 71) hx hb dX0_readNext_65 (by decide) ?_
        exact w_fT_readNext_b71 C x5 v6 0 _ _ _ (by decide) hI (lv_sub hl [1, 0] rfl) hf
    · refine lv_aload_n hx hb dX0_readNext_26 rfl (lv_at hl 0 rfl) ?_
      refine lv_dup hx hb dX0_readNext_27 rfl ?_
      refine tgX0_196 C hI dX0_readNext_28 ?_
      refine lv_iconst (v := 1) hx hb dX0_readNext_31 (by decide) ?_
      refine lv_iadd hx hb dX0_readNext_32 ?_
      refine tpX0_196 C hI dX0_readNext_33 (fun H locs hI => ?_)
      refine lv_goto (tgt := 0) hx hb dX0_readNext_36 (by decide) ?_
      exact ih (sTS x3 10 ((tS x3 10) + 1)) _ _ _ hI (lv_sub hl [0] rfl) hf
def fT_readNext (N : Nat) (B : Nat × Nat) (x : TS) : Option TS :=
  fT_readNext_b0 N B N x
theorem tmT_readNext (l : Launch) (N : Nat) {w : tO} {A : Nat → Prop} (B : Nat × Nat) : ∀ (x : TS) (xr : TS), fT_readNext N B x  = some xr → tMet l yX0_readNext (ws_ yX0_readNext cX0_readNext 2 none) frT_readNext loT_readNext [.ref (wa w 37)] w A B x none xr := by
  intro x  xr hf
  refine t_start (cc := cX0_readNext) (own := RX0) (by decide +kernel) rfl (Nat.le_of_ble_eq_true rfl) rfl ?_
  intro p e s m args below meth c ls H locs C hmn hI hl
  have hx := C.1.1
  have hb := C.1.2.1
  have hown := C.1.2.2.2.1
  have hts := C.1.2.2.2.2.1
  have hE := C.2.2
  rw [fT_readNext] at hf
  exact w_fT_readNext_b0 C N x _ _ _ hI (lv_sub hl [0] rfl) hf
/-! TwelveChain.openText(I)V -/
abbrev frT_openText : Nat := 7
abbrev loT_openText : Nat := 150
def fT_openText_b45 (N : Nat) (B : Nat × Nat) (x : TS) (s1 : Nat) : Option TS :=
  (fT_readNext N B (sTS (sTS (sTW x 8 s1) 10 0) 13 0)).bind fun x1 =>
  some x1
theorem w_fT_openText_b45 {N : Nat} {B : Nat × Nat} {xr : TS} (C : tCx w A p s m args meth c cX0_openText 2 RX0 none) : ∀ (x : TS) (s1 : Nat) (H : Heap) (locs : List Loc) (ls : Array Slot), tI w A B x s.heap H locs → lv_has ls 2 [(0, .ref (wa w 37))] → fT_openText_b45 N B x s1 = some xr → W p l e (tRm B frT_openText loT_openText s.heap.size (SL s.heap)) s m args below meth c H locs (tZ x - s.heap.size) (tY x - SL s.heap) (MQ below (tQ w A B none xr) args s (B.1 - s.heap.size) (B.2 - SL s.heap) A) (F0 m 45 ls [.ref (wa w (40 + s1)), .ref (wa w 37)]) := by
  have hx := C.1.1
  have hb := C.1.2.1
  have hown := C.1.2.2.2.1
  have hts := C.1.2.2.2.2.1
  have hE := C.2.2
  intro x s1 H locs ls hI hl hf
  rw [fT_openText_b45] at hf
  refine tpX0_111 C hI dX0_openText_45 (fun H locs hI => ?_)
  refine lv_aload_n hx hb dX0_openText_48 rfl (lv_at hl 0 rfl) ?_
  refine lv_iconst (v := 0) hx hb dX0_openText_49 (by decide) ?_
  refine tpX0_196 C hI dX0_openText_50 (fun H locs hI => ?_)
  refine lv_aload_n hx hb dX0_openText_53 rfl (lv_at hl 0 rfl) ?_
  refine lv_iconst (v := 0) hx hb dX0_openText_54 (by decide) ?_
  refine tpX0_287 C hI dX0_openText_55 (fun H locs hI => ?_)
  refine lv_aload_n hx hb dX0_openText_58 rfl (lv_at hl 0 rfl) ?_
  refine t_cVv (rest := []) C hI hf (tmT_readNext l N B _) (rv_main C hI) cqX0_T_readNext ⟨Nat.le_of_ble_eq_true rfl, Nat.le_of_ble_eq_true rfl⟩ rfl hl.1 rfl (Nat.le_of_ble_eq_true rfl) dX0_openText_59 (fun x1 H locs hI hf => ?_)
  exact t_vret C hI hf dX0_openText_62
def fT_openText_b26 (N : Nat) (B : Nat × Nat) (x : TS) (l1 : Int32) (s1 : Nat) : Option TS :=
  if l1 = 0 then
    fT_openText_b45 N B (sTW x 7 s1) 5
  else
    fT_openText_b45 N B (sTW x 7 s1) 6
theorem w_fT_openText_b26 {N : Nat} {B : Nat × Nat} {xr : TS} (C : tCx w A p s m args meth c cX0_openText 2 RX0 none) : ∀ (x : TS) (l1 : Int32) (s1 : Nat) (H : Heap) (locs : List Loc) (ls : Array Slot), tI w A B x s.heap H locs → lv_has ls 2 [(0, .ref (wa w 37)), (1, .int l1)] → fT_openText_b26 N B x l1 s1 = some xr → W p l e (tRm B frT_openText loT_openText s.heap.size (SL s.heap)) s m args below meth c H locs (tZ x - s.heap.size) (tY x - SL s.heap) (MQ below (tQ w A B none xr) args s (B.1 - s.heap.size) (B.2 - SL s.heap) A) (F0 m 26 ls [.ref (wa w (40 + s1)), .ref (wa w 37)]) := by
  have hx := C.1.1
  have hb := C.1.2.1
  have hown := C.1.2.2.2.1
  have hts := C.1.2.2.2.2.1
  have hE := C.2.2
  intro x l1 s1 H locs ls hI hl hf
  rw [fT_openText_b26] at hf
  refine tpX0_108 C hI dX0_openText_26 (fun H locs hI => ?_)
  refine lv_aload_n hx hb dX0_openText_29 rfl (lv_at hl 0 rfl) ?_
  refine lv_iload_n hx hb dX0_openText_30 rfl (lv_at hl 1 rfl) ?_
  refine b_ifne (tgt := 41) hx hb hf dX0_openText_31 (by decide) (fun hf => ?_) (fun hf => ?_)
  · refine lv_aload_n hx hb dX0_openText_41 rfl (lv_at hl 0 rfl) ?_
    refine tgX0_102 C hI dX0_openText_42 ?_
    exact w_fT_openText_b45 C (sTW x 7 s1) 6 _ _ _ hI (lv_sub hl [0] rfl) hf
  · refine lv_aload_n hx hb dX0_openText_34 rfl (lv_at hl 0 rfl) ?_
    refine tgX0_99 C hI dX0_openText_35 ?_
    refine lv_goto (tgt := 45) hx hb dX0_openText_38 (by decide) ?_
    exact w_fT_openText_b45 C (sTW x 7 s1) 5 _ _ _ hI (lv_sub hl [0] rfl) hf
def fT_openText (N : Nat) (B : Nat × Nat) (x : TS) (l1 : Int32) : Option TS :=
  (fwget l1).bind fun t1 =>
  if l1 = 0 then
    fT_openText_b26 N B (sTW x 6 t1) l1 4
  else
    fT_openText_b26 N B (sTW x 6 t1) l1 6
theorem tmT_openText (l : Launch) (N : Nat) {w : tO} {A : Nat → Prop} (B : Nat × Nat) : ∀ (x : TS) (l1 : Int32) (xr : TS), fT_openText N B x l1 = some xr → tMet l yX0_openText (ws_ yX0_openText cX0_openText 2 none) frT_openText loT_openText [.ref (wa w 37), .int l1] w A B x none xr := by
  intro x l1 xr hf
  refine t_start (cc := cX0_openText) (own := RX0) (by decide +kernel) rfl (Nat.le_of_ble_eq_true rfl) rfl ?_
  intro p e s m args below meth c ls H locs C hmn hI hl
  have hx := C.1.1
  have hb := C.1.2.1
  have hown := C.1.2.2.2.1
  have hts := C.1.2.2.2.2.1
  have hE := C.2.2
  rw [fT_openText] at hf
  refine lv_aload_n hx hb dX0_openText_0 rfl (lv_at hl 0 rfl) ?_
  refine lv_aload_n hx hb dX0_openText_1 rfl (lv_at hl 0 rfl) ?_
  refine tgX0_70 C hI dX0_openText_2 ?_
  refine lv_iload_n hx hb dX0_openText_5 rfl (lv_at hl 1 rfl) ?_
  refine t_fwald C hI hf dX0_openText_6 (fun t1 hf => ?_)
  refine tpX0_105 C hI dX0_openText_7 (fun H locs hI => ?_)
  refine lv_aload_n hx hb dX0_openText_10 rfl (lv_at hl 0 rfl) ?_
  refine lv_iload_n hx hb dX0_openText_11 rfl (lv_at hl 1 rfl) ?_
  refine b_ifne (tgt := 22) hx hb hf dX0_openText_12 (by decide) (fun hf => ?_) (fun hf => ?_)
  · refine lv_aload_n hx hb dX0_openText_22 rfl (lv_at hl 0 rfl) ?_
    refine tgX0_102 C hI dX0_openText_23 ?_
    exact w_fT_openText_b26 C (sTW x 6 t1) l1 6 _ _ _ hI (lv_sub hl [0, 1] rfl) hf
  · refine lv_aload_n hx hb dX0_openText_15 rfl (lv_at hl 0 rfl) ?_
    refine tgX0_88 C hI dX0_openText_16 ?_
    refine lv_goto (tgt := 26) hx hb dX0_openText_19 (by decide) ?_
    exact w_fT_openText_b26 C (sTW x 6 t1) l1 4 _ _ _ hI (lv_sub hl [0, 1] rfl) hf
/-! TwelveChain.isWord(Ljava/lang/String;)Z -/
abbrev frT_isWord : Nat := 5
abbrev loT_isWord : Nat := 107
def fT_isWord (N : Nat) (B : Nat × Nat) (x : TS) (l1 : sIx) : Option (Int32 × TS) :=
  (tok (tW x 9)).bind fun k1 =>
  if k1 = 2 then
    b2 (fT_spells N B x l1) fun v3 x2 =>
    if v3 = 0 then
      some (0, x2)
    else
      some (1, x2)
  else
    some (0, x)
theorem tmT_isWord (l : Launch) (N : Nat) {w : tO} {A : Nat → Prop} (B : Nat × Nat) {l1 : Nat} (hi_l1 : l1 < 25) : ∀ (x : TS) (r : Int32) (xr : TS), fT_isWord N B x l1 = some (r, xr) → tMet l yX0_isWord (ws_ yX0_isWord cX0_isWord 2 (some .boolean)) frT_isWord loT_isWord [.ref (wa w 37), .ref ((wk w).1 l1)] w A B x (some (.int r)) xr := by
  intro x  r xr hf
  refine t_start (cc := cX0_isWord) (own := RX0) (by decide +kernel) rfl (Nat.le_of_ble_eq_true rfl) rfl ?_
  intro p e s m args below meth c ls H locs C hmn hI hl
  have hx := C.1.1
  have hb := C.1.2.1
  have hown := C.1.2.2.2.1
  have hts := C.1.2.2.2.2.1
  have hE := C.2.2
  rw [fT_isWord] at hf
  refine lv_aload_n hx hb dX0_isWord_0 rfl (lv_at hl 0 rfl) ?_
  refine t_tok C hI hf q316 dX0_isWord_1 (fun k1 hi_k1 hf => ?_)
  refine t_gtok (i := 2) C hI (by decide) rfl q465 dX0_isWord_4 ?_
  refine b_acne (i := k1) (j := 2) (tgt := 22) C hi_k1 (by decide) hf dX0_isWord_7 (by decide) (fun hf => ?_) (fun hf => ?_)
  · refine lv_iconst (v := 0) hx hb dX0_isWord_22 (by decide) ?_
    exact t_zretc C hI zb_0 hf dX0_isWord_23
  · refine lv_aload_n hx hb dX0_isWord_10 rfl (lv_at hl 0 rfl) ?_
    refine lv_aload_n hx hb dX0_isWord_11 rfl (lv_at hl 1 rfl) ?_
    refine t_cVi (rest := []) C hI hf (tmT_spells l N B hi_l1 _) (rv_main C hI) cqX0_T_spells ⟨Nat.le_of_ble_eq_true rfl, Nat.le_of_ble_eq_true rfl⟩ rfl hl.1 rfl (Nat.le_of_ble_eq_true rfl) dX0_isWord_12 (fun v3 x2 H locs hI hf => ?_)
    refine b_ifeq (tgt := 22) hx hb hf dX0_isWord_15 (by decide) (fun hf => ?_) (fun hf => ?_)
    · refine lv_iconst (v := 0) hx hb dX0_isWord_22 (by decide) ?_
      exact t_zretc C hI zb_0 hf dX0_isWord_23
    · refine lv_iconst (v := 1) hx hb dX0_isWord_18 (by decide) ?_
      refine lv_goto (tgt := 23) hx hb dX0_isWord_19 (by decide) ?_
      exact t_zretc C hI zb_1 hf dX0_isWord_23
/-! TwelveChain.isSign(C)Z -/
abbrev frT_isSign : Nat := 0
abbrev loT_isSign : Nat := 0
def fT_isSign (N : Nat) (B : Nat × Nat) (x : TS) (l1 : Int32) : Option (Int32 × TS) :=
  (tok (tW x 9)).bind fun k1 =>
  if k1 = 4 then
    if (tS x 12) = l1 then
      some (1, x)
    else
      some (0, x)
  else
    some (0, x)
theorem tmT_isSign (l : Launch) (N : Nat) {w : tO} {A : Nat → Prop} (B : Nat × Nat) : ∀ (x : TS) (l1 : Int32) (r : Int32) (xr : TS), fT_isSign N B x l1 = some (r, xr) → tMet l yX0_isSign (ws_ yX0_isSign cX0_isSign 2 (some .boolean)) frT_isSign loT_isSign [.ref (wa w 37), .int l1] w A B x (some (.int r)) xr := by
  intro x l1 r xr hf
  refine t_start (cc := cX0_isSign) (own := RX0) (by decide +kernel) rfl (Nat.le_of_ble_eq_true rfl) rfl ?_
  intro p e s m args below meth c ls H locs C hmn hI hl
  have hx := C.1.1
  have hb := C.1.2.1
  have hown := C.1.2.2.2.1
  have hts := C.1.2.2.2.2.1
  have hE := C.2.2
  rw [fT_isSign] at hf
  refine lv_aload_n hx hb dX0_isSign_0 rfl (lv_at hl 0 rfl) ?_
  refine t_tok C hI hf q316 dX0_isSign_1 (fun k1 hi_k1 hf => ?_)
  refine t_gtok (i := 4) C hI (by decide) rfl q590 dX0_isSign_4 ?_
  refine b_acne (i := k1) (j := 4) (tgt := 22) C hi_k1 (by decide) hf dX0_isSign_7 (by decide) (fun hf => ?_) (fun hf => ?_)
  · refine lv_iconst (v := 0) hx hb dX0_isSign_22 (by decide) ?_
    exact t_zretc C hI zb_0 hf dX0_isSign_23
  · refine lv_aload_n hx hb dX0_isSign_10 rfl (lv_at hl 0 rfl) ?_
    refine tgX0_224 C hI dX0_isSign_11 ?_
    refine lv_iload_n hx hb dX0_isSign_14 rfl (lv_at hl 1 rfl) ?_
    refine b_icne (tgt := 22) hx hb hf dX0_isSign_15 (by decide) (fun hf => ?_) (fun hf => ?_)
    · refine lv_iconst (v := 0) hx hb dX0_isSign_22 (by decide) ?_
      exact t_zretc C hI zb_0 hf dX0_isSign_23
    · refine lv_iconst (v := 1) hx hb dX0_isSign_18 (by decide) ?_
      refine lv_goto (tgt := 23) hx hb dX0_isSign_19 (by decide) ?_
      exact t_zretc C hI zb_1 hf dX0_isSign_23
/-! TwelveChain.fault(I)I -/
abbrev frT_fault : Nat := 0
abbrev loT_fault : Nat := 0
def fT_fault (N : Nat) (B : Nat × Nat) (x : TS) (l1 : Int32) : Option (Int32 × TS) :=
  if l1 = 0 then
    some (tS x 14, x)
  else
    if l1 = 1 then
      some (tS x 15, x)
    else
      some ((-1), x)
theorem tmT_fault (l : Launch) (N : Nat) {w : tO} {A : Nat → Prop} (B : Nat × Nat) : ∀ (x : TS) (l1 : Int32) (r : Int32) (xr : TS), fT_fault N B x l1 = some (r, xr) → tMet l yX0_fault (ws_ yX0_fault cX0_fault 2 (some .int)) frT_fault loT_fault [.ref (wa w 37), .int l1] w A B x (some (.int r)) xr := by
  intro x l1 r xr hf
  refine t_start (cc := cX0_fault) (own := RX0) (by decide +kernel) rfl (Nat.le_of_ble_eq_true rfl) rfl ?_
  intro p e s m args below meth c ls H locs C hmn hI hl
  have hx := C.1.1
  have hb := C.1.2.1
  have hown := C.1.2.2.2.1
  have hts := C.1.2.2.2.2.1
  have hE := C.2.2
  rw [fT_fault] at hf
  refine lv_iload_n hx hb dX0_fault_0 rfl (lv_at hl 1 rfl) ?_
  refine b_ifne (tgt := 11) hx hb hf dX0_fault_1 (by decide) (fun hf => ?_) (fun hf => ?_)
  · refine lv_iload_n hx hb dX0_fault_11 rfl (lv_at hl 1 rfl) ?_
    refine lv_iconst (v := 1) hx hb dX0_fault_12 (by decide) ?_
    refine b_icne (tgt := 23) hx hb hf dX0_fault_13 (by decide) (fun hf => ?_) (fun hf => ?_)
    · refine lv_iconst (v := (-1)) hx hb dX0_fault_23 (by decide) ?_
      exact t_iret C hI hf dX0_fault_24
    · refine lv_aload_n hx hb dX0_fault_16 rfl (lv_at hl 0 rfl) ?_
      refine tgX0_114 C hI dX0_fault_17 ?_
      refine lv_goto (tgt := 24) hx hb dX0_fault_20 (by decide) ?_
      exact t_iret C hI hf dX0_fault_24
  · refine lv_aload_n hx hb dX0_fault_4 rfl (lv_at hl 0 rfl) ?_
    refine tgX0_380 C hI dX0_fault_5 ?_
    refine lv_goto (tgt := 24) hx hb dX0_fault_8 (by decide) ?_
    exact t_iret C hI hf dX0_fault_24
/-! TwelveChain$Chain.become(LTwelveChain$Chain;)V -/
abbrev frC_become : Nat := 2
abbrev loC_become : Nat := 39
def fC_become (N : Nat) (B : Nat × Nat) (x : TS) (l0 : cIx) (l1 : cIx) : Option TS :=
  some (sTF (sTF (sTF (sTF (sTF (sTF (sTF (sTC (sTC (sTC (sTC (sTC x l0 0 (tC x l1 0)) l0 1 (tC (sTC x l0 0 (tC x l1 0)) l1 1)) l0 2 (tC (sTC (sTC x l0 0 (tC x l1 0)) l0 1 (tC (sTC x l0 0 (tC x l1 0)) l1 1)) l1 2)) l0 3 (tC (sTC (sTC (sTC x l0 0 (tC x l1 0)) l0 1 (tC (sTC x l0 0 (tC x l1 0)) l1 1)) l0 2 (tC (sTC (sTC x l0 0 (tC x l1 0)) l0 1 (tC (sTC x l0 0 (tC x l1 0)) l1 1)) l1 2)) l1 3)) l0 4 (tC (sTC (sTC (sTC (sTC x l0 0 (tC x l1 0)) l0 1 (tC (sTC x l0 0 (tC x l1 0)) l1 1)) l0 2 (tC (sTC (sTC x l0 0 (tC x l1 0)) l0 1 (tC (sTC x l0 0 (tC x l1 0)) l1 1)) l1 2)) l0 3 (tC (sTC (sTC (sTC x l0 0 (tC x l1 0)) l0 1 (tC (sTC x l0 0 (tC x l1 0)) l1 1)) l0 2 (tC (sTC (sTC x l0 0 (tC x l1 0)) l0 1 (tC (sTC x l0 0 (tC x l1 0)) l1 1)) l1 2)) l1 3)) l1 4)) l0 5 (tF (sTC (sTC (sTC (sTC (sTC x l0 0 (tC x l1 0)) l0 1 (tC (sTC x l0 0 (tC x l1 0)) l1 1)) l0 2 (tC (sTC (sTC x l0 0 (tC x l1 0)) l0 1 (tC (sTC x l0 0 (tC x l1 0)) l1 1)) l1 2)) l0 3 (tC (sTC (sTC (sTC x l0 0 (tC x l1 0)) l0 1 (tC (sTC x l0 0 (tC x l1 0)) l1 1)) l0 2 (tC (sTC (sTC x l0 0 (tC x l1 0)) l0 1 (tC (sTC x l0 0 (tC x l1 0)) l1 1)) l1 2)) l1 3)) l0 4 (tC (sTC (sTC (sTC (sTC x l0 0 (tC x l1 0)) l0 1 (tC (sTC x l0 0 (tC x l1 0)) l1 1)) l0 2 (tC (sTC (sTC x l0 0 (tC x l1 0)) l0 1 (tC (sTC x l0 0 (tC x l1 0)) l1 1)) l1 2)) l0 3 (tC (sTC (sTC (sTC x l0 0 (tC x l1 0)) l0 1 (tC (sTC x l0 0 (tC x l1 0)) l1 1)) l0 2 (tC (sTC (sTC x l0 0 (tC x l1 0)) l0 1 (tC (sTC x l0 0 (tC x l1 0)) l1 1)) l1 2)) l1 3)) l1 4)) l1 5)) l0 6 (tF (sTF (sTC (sTC (sTC (sTC (sTC x l0 0 (tC x l1 0)) l0 1 (tC (sTC x l0 0 (tC x l1 0)) l1 1)) l0 2 (tC (sTC (sTC x l0 0 (tC x l1 0)) l0 1 (tC (sTC x l0 0 (tC x l1 0)) l1 1)) l1 2)) l0 3 (tC (sTC (sTC (sTC x l0 0 (tC x l1 0)) l0 1 (tC (sTC x l0 0 (tC x l1 0)) l1 1)) l0 2 (tC (sTC (sTC x l0 0 (tC x l1 0)) l0 1 (tC (sTC x l0 0 (tC x l1 0)) l1 1)) l1 2)) l1 3)) l0 4 (tC (sTC (sTC (sTC (sTC x l0 0 (tC x l1 0)) l0 1 (tC (sTC x l0 0 (tC x l1 0)) l1 1)) l0 2 (tC (sTC (sTC x l0 0 (tC x l1 0)) l0 1 (tC (sTC x l0 0 (tC x l1 0)) l1 1)) l1 2)) l0 3 (tC (sTC (sTC (sTC x l0 0 (tC x l1 0)) l0 1 (tC (sTC x l0 0 (tC x l1 0)) l1 1)) l0 2 (tC (sTC (sTC x l0 0 (tC x l1 0)) l0 1 (tC (sTC x l0 0 (tC x l1 0)) l1 1)) l1 2)) l1 3)) l1 4)) l0 5 (tF (sTC (sTC (sTC (sTC (sTC x l0 0 (tC x l1 0)) l0 1 (tC (sTC x l0 0 (tC x l1 0)) l1 1)) l0 2 (tC (sTC (sTC x l0 0 (tC x l1 0)) l0 1 (tC (sTC x l0 0 (tC x l1 0)) l1 1)) l1 2)) l0 3 (tC (sTC (sTC (sTC x l0 0 (tC x l1 0)) l0 1 (tC (sTC x l0 0 (tC x l1 0)) l1 1)) l0 2 (tC (sTC (sTC x l0 0 (tC x l1 0)) l0 1 (tC (sTC x l0 0 (tC x l1 0)) l1 1)) l1 2)) l1 3)) l0 4 (tC (sTC (sTC (sTC (sTC x l0 0 (tC x l1 0)) l0 1 (tC (sTC x l0 0 (tC x l1 0)) l1 1)) l0 2 (tC (sTC (sTC x l0 0 (tC x l1 0)) l0 1 (tC (sTC x l0 0 (tC x l1 0)) l1 1)) l1 2)) l0 3 (tC (sTC (sTC (sTC x l0 0 (tC x l1 0)) l0 1 (tC (sTC x l0 0 (tC x l1 0)) l1 1)) l0 2 (tC (sTC (sTC x l0 0 (tC x l1 0)) l0 1 (tC (sTC x l0 0 (tC x l1 0)) l1 1)) l1 2)) l1 3)) l1 4)) l1 5)) l1 6)) l0 7 (tF (sTF (sTF (sTC (sTC (sTC (sTC (sTC x l0 0 (tC x l1 0)) l0 1 (tC (sTC x l0 0 (tC x l1 0)) l1 1)) l0 2 (tC (sTC (sTC x l0 0 (tC x l1 0)) l0 1 (tC (sTC x l0 0 (tC x l1 0)) l1 1)) l1 2)) l0 3 (tC (sTC (sTC (sTC x l0 0 (tC x l1 0)) l0 1 (tC (sTC x l0 0 (tC x l1 0)) l1 1)) l0 2 (tC (sTC (sTC x l0 0 (tC x l1 0)) l0 1 (tC (sTC x l0 0 (tC x l1 0)) l1 1)) l1 2)) l1 3)) l0 4 (tC (sTC (sTC (sTC (sTC x l0 0 (tC x l1 0)) l0 1 (tC (sTC x l0 0 (tC x l1 0)) l1 1)) l0 2 (tC (sTC (sTC x l0 0 (tC x l1 0)) l0 1 (tC (sTC x l0 0 (tC x l1 0)) l1 1)) l1 2)) l0 3 (tC (sTC (sTC (sTC x l0 0 (tC x l1 0)) l0 1 (tC (sTC x l0 0 (tC x l1 0)) l1 1)) l0 2 (tC (sTC (sTC x l0 0 (tC x l1 0)) l0 1 (tC (sTC x l0 0 (tC x l1 0)) l1 1)) l1 2)) l1 3)) l1 4)) l0 5 (tF (sTC (sTC (sTC (sTC (sTC x l0 0 (tC x l1 0)) l0 1 (tC (sTC x l0 0 (tC x l1 0)) l1 1)) l0 2 (tC (sTC (sTC x l0 0 (tC x l1 0)) l0 1 (tC (sTC x l0 0 (tC x l1 0)) l1 1)) l1 2)) l0 3 (tC (sTC (sTC (sTC x l0 0 (tC x l1 0)) l0 1 (tC (sTC x l0 0 (tC x l1 0)) l1 1)) l0 2 (tC (sTC (sTC x l0 0 (tC x l1 0)) l0 1 (tC (sTC x l0 0 (tC x l1 0)) l1 1)) l1 2)) l1 3)) l0 4 (tC (sTC (sTC (sTC (sTC x l0 0 (tC x l1 0)) l0 1 (tC (sTC x l0 0 (tC x l1 0)) l1 1)) l0 2 (tC (sTC (sTC x l0 0 (tC x l1 0)) l0 1 (tC (sTC x l0 0 (tC x l1 0)) l1 1)) l1 2)) l0 3 (tC (sTC (sTC (sTC x l0 0 (tC x l1 0)) l0 1 (tC (sTC x l0 0 (tC x l1 0)) l1 1)) l0 2 (tC (sTC (sTC x l0 0 (tC x l1 0)) l0 1 (tC (sTC x l0 0 (tC x l1 0)) l1 1)) l1 2)) l1 3)) l1 4)) l1 5)) l0 6 (tF (sTF (sTC (sTC (sTC (sTC (sTC x l0 0 (tC x l1 0)) l0 1 (tC (sTC x l0 0 (tC x l1 0)) l1 1)) l0 2 (tC (sTC (sTC x l0 0 (tC x l1 0)) l0 1 (tC (sTC x l0 0 (tC x l1 0)) l1 1)) l1 2)) l0 3 (tC (sTC (sTC (sTC x l0 0 (tC x l1 0)) l0 1 (tC (sTC x l0 0 (tC x l1 0)) l1 1)) l0 2 (tC (sTC (sTC x l0 0 (tC x l1 0)) l0 1 (tC (sTC x l0 0 (tC x l1 0)) l1 1)) l1 2)) l1 3)) l0 4 (tC (sTC (sTC (sTC (sTC x l0 0 (tC x l1 0)) l0 1 (tC (sTC x l0 0 (tC x l1 0)) l1 1)) l0 2 (tC (sTC (sTC x l0 0 (tC x l1 0)) l0 1 (tC (sTC x l0 0 (tC x l1 0)) l1 1)) l1 2)) l0 3 (tC (sTC (sTC (sTC x l0 0 (tC x l1 0)) l0 1 (tC (sTC x l0 0 (tC x l1 0)) l1 1)) l0 2 (tC (sTC (sTC x l0 0 (tC x l1 0)) l0 1 (tC (sTC x l0 0 (tC x l1 0)) l1 1)) l1 2)) l1 3)) l1 4)) l0 5 (tF (sTC (sTC (sTC (sTC (sTC x l0 0 (tC x l1 0)) l0 1 (tC (sTC x l0 0 (tC x l1 0)) l1 1)) l0 2 (tC (sTC (sTC x l0 0 (tC x l1 0)) l0 1 (tC (sTC x l0 0 (tC x l1 0)) l1 1)) l1 2)) l0 3 (tC (sTC (sTC (sTC x l0 0 (tC x l1 0)) l0 1 (tC (sTC x l0 0 (tC x l1 0)) l1 1)) l0 2 (tC (sTC (sTC x l0 0 (tC x l1 0)) l0 1 (tC (sTC x l0 0 (tC x l1 0)) l1 1)) l1 2)) l1 3)) l0 4 (tC (sTC (sTC (sTC (sTC x l0 0 (tC x l1 0)) l0 1 (tC (sTC x l0 0 (tC x l1 0)) l1 1)) l0 2 (tC (sTC (sTC x l0 0 (tC x l1 0)) l0 1 (tC (sTC x l0 0 (tC x l1 0)) l1 1)) l1 2)) l0 3 (tC (sTC (sTC (sTC x l0 0 (tC x l1 0)) l0 1 (tC (sTC x l0 0 (tC x l1 0)) l1 1)) l0 2 (tC (sTC (sTC x l0 0 (tC x l1 0)) l0 1 (tC (sTC x l0 0 (tC x l1 0)) l1 1)) l1 2)) l1 3)) l1 4)) l1 5)) l1 6)) l1 7)) l0 8 (tF (sTF (sTF (sTF (sTC (sTC (sTC (sTC (sTC x l0 0 (tC x l1 0)) l0 1 (tC (sTC x l0 0 (tC x l1 0)) l1 1)) l0 2 (tC (sTC (sTC x l0 0 (tC x l1 0)) l0 1 (tC (sTC x l0 0 (tC x l1 0)) l1 1)) l1 2)) l0 3 (tC (sTC (sTC (sTC x l0 0 (tC x l1 0)) l0 1 (tC (sTC x l0 0 (tC x l1 0)) l1 1)) l0 2 (tC (sTC (sTC x l0 0 (tC x l1 0)) l0 1 (tC (sTC x l0 0 (tC x l1 0)) l1 1)) l1 2)) l1 3)) l0 4 (tC (sTC (sTC (sTC (sTC x l0 0 (tC x l1 0)) l0 1 (tC (sTC x l0 0 (tC x l1 0)) l1 1)) l0 2 (tC (sTC (sTC x l0 0 (tC x l1 0)) l0 1 (tC (sTC x l0 0 (tC x l1 0)) l1 1)) l1 2)) l0 3 (tC (sTC (sTC (sTC x l0 0 (tC x l1 0)) l0 1 (tC (sTC x l0 0 (tC x l1 0)) l1 1)) l0 2 (tC (sTC (sTC x l0 0 (tC x l1 0)) l0 1 (tC (sTC x l0 0 (tC x l1 0)) l1 1)) l1 2)) l1 3)) l1 4)) l0 5 (tF (sTC (sTC (sTC (sTC (sTC x l0 0 (tC x l1 0)) l0 1 (tC (sTC x l0 0 (tC x l1 0)) l1 1)) l0 2 (tC (sTC (sTC x l0 0 (tC x l1 0)) l0 1 (tC (sTC x l0 0 (tC x l1 0)) l1 1)) l1 2)) l0 3 (tC (sTC (sTC (sTC x l0 0 (tC x l1 0)) l0 1 (tC (sTC x l0 0 (tC x l1 0)) l1 1)) l0 2 (tC (sTC (sTC x l0 0 (tC x l1 0)) l0 1 (tC (sTC x l0 0 (tC x l1 0)) l1 1)) l1 2)) l1 3)) l0 4 (tC (sTC (sTC (sTC (sTC x l0 0 (tC x l1 0)) l0 1 (tC (sTC x l0 0 (tC x l1 0)) l1 1)) l0 2 (tC (sTC (sTC x l0 0 (tC x l1 0)) l0 1 (tC (sTC x l0 0 (tC x l1 0)) l1 1)) l1 2)) l0 3 (tC (sTC (sTC (sTC x l0 0 (tC x l1 0)) l0 1 (tC (sTC x l0 0 (tC x l1 0)) l1 1)) l0 2 (tC (sTC (sTC x l0 0 (tC x l1 0)) l0 1 (tC (sTC x l0 0 (tC x l1 0)) l1 1)) l1 2)) l1 3)) l1 4)) l1 5)) l0 6 (tF (sTF (sTC (sTC (sTC (sTC (sTC x l0 0 (tC x l1 0)) l0 1 (tC (sTC x l0 0 (tC x l1 0)) l1 1)) l0 2 (tC (sTC (sTC x l0 0 (tC x l1 0)) l0 1 (tC (sTC x l0 0 (tC x l1 0)) l1 1)) l1 2)) l0 3 (tC (sTC (sTC (sTC x l0 0 (tC x l1 0)) l0 1 (tC (sTC x l0 0 (tC x l1 0)) l1 1)) l0 2 (tC (sTC (sTC x l0 0 (tC x l1 0)) l0 1 (tC (sTC x l0 0 (tC x l1 0)) l1 1)) l1 2)) l1 3)) l0 4 (tC (sTC (sTC (sTC (sTC x l0 0 (tC x l1 0)) l0 1 (tC (sTC x l0 0 (tC x l1 0)) l1 1)) l0 2 (tC (sTC (sTC x l0 0 (tC x l1 0)) l0 1 (tC (sTC x l0 0 (tC x l1 0)) l1 1)) l1 2)) l0 3 (tC (sTC (sTC (sTC x l0 0 (tC x l1 0)) l0 1 (tC (sTC x l0 0 (tC x l1 0)) l1 1)) l0 2 (tC (sTC (sTC x l0 0 (tC x l1 0)) l0 1 (tC (sTC x l0 0 (tC x l1 0)) l1 1)) l1 2)) l1 3)) l1 4)) l0 5 (tF (sTC (sTC (sTC (sTC (sTC x l0 0 (tC x l1 0)) l0 1 (tC (sTC x l0 0 (tC x l1 0)) l1 1)) l0 2 (tC (sTC (sTC x l0 0 (tC x l1 0)) l0 1 (tC (sTC x l0 0 (tC x l1 0)) l1 1)) l1 2)) l0 3 (tC (sTC (sTC (sTC x l0 0 (tC x l1 0)) l0 1 (tC (sTC x l0 0 (tC x l1 0)) l1 1)) l0 2 (tC (sTC (sTC x l0 0 (tC x l1 0)) l0 1 (tC (sTC x l0 0 (tC x l1 0)) l1 1)) l1 2)) l1 3)) l0 4 (tC (sTC (sTC (sTC (sTC x l0 0 (tC x l1 0)) l0 1 (tC (sTC x l0 0 (tC x l1 0)) l1 1)) l0 2 (tC (sTC (sTC x l0 0 (tC x l1 0)) l0 1 (tC (sTC x l0 0 (tC x l1 0)) l1 1)) l1 2)) l0 3 (tC (sTC (sTC (sTC x l0 0 (tC x l1 0)) l0 1 (tC (sTC x l0 0 (tC x l1 0)) l1 1)) l0 2 (tC (sTC (sTC x l0 0 (tC x l1 0)) l0 1 (tC (sTC x l0 0 (tC x l1 0)) l1 1)) l1 2)) l1 3)) l1 4)) l1 5)) l1 6)) l0 7 (tF (sTF (sTF (sTC (sTC (sTC (sTC (sTC x l0 0 (tC x l1 0)) l0 1 (tC (sTC x l0 0 (tC x l1 0)) l1 1)) l0 2 (tC (sTC (sTC x l0 0 (tC x l1 0)) l0 1 (tC (sTC x l0 0 (tC x l1 0)) l1 1)) l1 2)) l0 3 (tC (sTC (sTC (sTC x l0 0 (tC x l1 0)) l0 1 (tC (sTC x l0 0 (tC x l1 0)) l1 1)) l0 2 (tC (sTC (sTC x l0 0 (tC x l1 0)) l0 1 (tC (sTC x l0 0 (tC x l1 0)) l1 1)) l1 2)) l1 3)) l0 4 (tC (sTC (sTC (sTC (sTC x l0 0 (tC x l1 0)) l0 1 (tC (sTC x l0 0 (tC x l1 0)) l1 1)) l0 2 (tC (sTC (sTC x l0 0 (tC x l1 0)) l0 1 (tC (sTC x l0 0 (tC x l1 0)) l1 1)) l1 2)) l0 3 (tC (sTC (sTC (sTC x l0 0 (tC x l1 0)) l0 1 (tC (sTC x l0 0 (tC x l1 0)) l1 1)) l0 2 (tC (sTC (sTC x l0 0 (tC x l1 0)) l0 1 (tC (sTC x l0 0 (tC x l1 0)) l1 1)) l1 2)) l1 3)) l1 4)) l0 5 (tF (sTC (sTC (sTC (sTC (sTC x l0 0 (tC x l1 0)) l0 1 (tC (sTC x l0 0 (tC x l1 0)) l1 1)) l0 2 (tC (sTC (sTC x l0 0 (tC x l1 0)) l0 1 (tC (sTC x l0 0 (tC x l1 0)) l1 1)) l1 2)) l0 3 (tC (sTC (sTC (sTC x l0 0 (tC x l1 0)) l0 1 (tC (sTC x l0 0 (tC x l1 0)) l1 1)) l0 2 (tC (sTC (sTC x l0 0 (tC x l1 0)) l0 1 (tC (sTC x l0 0 (tC x l1 0)) l1 1)) l1 2)) l1 3)) l0 4 (tC (sTC (sTC (sTC (sTC x l0 0 (tC x l1 0)) l0 1 (tC (sTC x l0 0 (tC x l1 0)) l1 1)) l0 2 (tC (sTC (sTC x l0 0 (tC x l1 0)) l0 1 (tC (sTC x l0 0 (tC x l1 0)) l1 1)) l1 2)) l0 3 (tC (sTC (sTC (sTC x l0 0 (tC x l1 0)) l0 1 (tC (sTC x l0 0 (tC x l1 0)) l1 1)) l0 2 (tC (sTC (sTC x l0 0 (tC x l1 0)) l0 1 (tC (sTC x l0 0 (tC x l1 0)) l1 1)) l1 2)) l1 3)) l1 4)) l1 5)) l0 6 (tF (sTF (sTC (sTC (sTC (sTC (sTC x l0 0 (tC x l1 0)) l0 1 (tC (sTC x l0 0 (tC x l1 0)) l1 1)) l0 2 (tC (sTC (sTC x l0 0 (tC x l1 0)) l0 1 (tC (sTC x l0 0 (tC x l1 0)) l1 1)) l1 2)) l0 3 (tC (sTC (sTC (sTC x l0 0 (tC x l1 0)) l0 1 (tC (sTC x l0 0 (tC x l1 0)) l1 1)) l0 2 (tC (sTC (sTC x l0 0 (tC x l1 0)) l0 1 (tC (sTC x l0 0 (tC x l1 0)) l1 1)) l1 2)) l1 3)) l0 4 (tC (sTC (sTC (sTC (sTC x l0 0 (tC x l1 0)) l0 1 (tC (sTC x l0 0 (tC x l1 0)) l1 1)) l0 2 (tC (sTC (sTC x l0 0 (tC x l1 0)) l0 1 (tC (sTC x l0 0 (tC x l1 0)) l1 1)) l1 2)) l0 3 (tC (sTC (sTC (sTC x l0 0 (tC x l1 0)) l0 1 (tC (sTC x l0 0 (tC x l1 0)) l1 1)) l0 2 (tC (sTC (sTC x l0 0 (tC x l1 0)) l0 1 (tC (sTC x l0 0 (tC x l1 0)) l1 1)) l1 2)) l1 3)) l1 4)) l0 5 (tF (sTC (sTC (sTC (sTC (sTC x l0 0 (tC x l1 0)) l0 1 (tC (sTC x l0 0 (tC x l1 0)) l1 1)) l0 2 (tC (sTC (sTC x l0 0 (tC x l1 0)) l0 1 (tC (sTC x l0 0 (tC x l1 0)) l1 1)) l1 2)) l0 3 (tC (sTC (sTC (sTC x l0 0 (tC x l1 0)) l0 1 (tC (sTC x l0 0 (tC x l1 0)) l1 1)) l0 2 (tC (sTC (sTC x l0 0 (tC x l1 0)) l0 1 (tC (sTC x l0 0 (tC x l1 0)) l1 1)) l1 2)) l1 3)) l0 4 (tC (sTC (sTC (sTC (sTC x l0 0 (tC x l1 0)) l0 1 (tC (sTC x l0 0 (tC x l1 0)) l1 1)) l0 2 (tC (sTC (sTC x l0 0 (tC x l1 0)) l0 1 (tC (sTC x l0 0 (tC x l1 0)) l1 1)) l1 2)) l0 3 (tC (sTC (sTC (sTC x l0 0 (tC x l1 0)) l0 1 (tC (sTC x l0 0 (tC x l1 0)) l1 1)) l0 2 (tC (sTC (sTC x l0 0 (tC x l1 0)) l0 1 (tC (sTC x l0 0 (tC x l1 0)) l1 1)) l1 2)) l1 3)) l1 4)) l1 5)) l1 6)) l1 7)) l1 8)) l0 9 (tF (sTF (sTF (sTF (sTF (sTC (sTC (sTC (sTC (sTC x l0 0 (tC x l1 0)) l0 1 (tC (sTC x l0 0 (tC x l1 0)) l1 1)) l0 2 (tC (sTC (sTC x l0 0 (tC x l1 0)) l0 1 (tC (sTC x l0 0 (tC x l1 0)) l1 1)) l1 2)) l0 3 (tC (sTC (sTC (sTC x l0 0 (tC x l1 0)) l0 1 (tC (sTC x l0 0 (tC x l1 0)) l1 1)) l0 2 (tC (sTC (sTC x l0 0 (tC x l1 0)) l0 1 (tC (sTC x l0 0 (tC x l1 0)) l1 1)) l1 2)) l1 3)) l0 4 (tC (sTC (sTC (sTC (sTC x l0 0 (tC x l1 0)) l0 1 (tC (sTC x l0 0 (tC x l1 0)) l1 1)) l0 2 (tC (sTC (sTC x l0 0 (tC x l1 0)) l0 1 (tC (sTC x l0 0 (tC x l1 0)) l1 1)) l1 2)) l0 3 (tC (sTC (sTC (sTC x l0 0 (tC x l1 0)) l0 1 (tC (sTC x l0 0 (tC x l1 0)) l1 1)) l0 2 (tC (sTC (sTC x l0 0 (tC x l1 0)) l0 1 (tC (sTC x l0 0 (tC x l1 0)) l1 1)) l1 2)) l1 3)) l1 4)) l0 5 (tF (sTC (sTC (sTC (sTC (sTC x l0 0 (tC x l1 0)) l0 1 (tC (sTC x l0 0 (tC x l1 0)) l1 1)) l0 2 (tC (sTC (sTC x l0 0 (tC x l1 0)) l0 1 (tC (sTC x l0 0 (tC x l1 0)) l1 1)) l1 2)) l0 3 (tC (sTC (sTC (sTC x l0 0 (tC x l1 0)) l0 1 (tC (sTC x l0 0 (tC x l1 0)) l1 1)) l0 2 (tC (sTC (sTC x l0 0 (tC x l1 0)) l0 1 (tC (sTC x l0 0 (tC x l1 0)) l1 1)) l1 2)) l1 3)) l0 4 (tC (sTC (sTC (sTC (sTC x l0 0 (tC x l1 0)) l0 1 (tC (sTC x l0 0 (tC x l1 0)) l1 1)) l0 2 (tC (sTC (sTC x l0 0 (tC x l1 0)) l0 1 (tC (sTC x l0 0 (tC x l1 0)) l1 1)) l1 2)) l0 3 (tC (sTC (sTC (sTC x l0 0 (tC x l1 0)) l0 1 (tC (sTC x l0 0 (tC x l1 0)) l1 1)) l0 2 (tC (sTC (sTC x l0 0 (tC x l1 0)) l0 1 (tC (sTC x l0 0 (tC x l1 0)) l1 1)) l1 2)) l1 3)) l1 4)) l1 5)) l0 6 (tF (sTF (sTC (sTC (sTC (sTC (sTC x l0 0 (tC x l1 0)) l0 1 (tC (sTC x l0 0 (tC x l1 0)) l1 1)) l0 2 (tC (sTC (sTC x l0 0 (tC x l1 0)) l0 1 (tC (sTC x l0 0 (tC x l1 0)) l1 1)) l1 2)) l0 3 (tC (sTC (sTC (sTC x l0 0 (tC x l1 0)) l0 1 (tC (sTC x l0 0 (tC x l1 0)) l1 1)) l0 2 (tC (sTC (sTC x l0 0 (tC x l1 0)) l0 1 (tC (sTC x l0 0 (tC x l1 0)) l1 1)) l1 2)) l1 3)) l0 4 (tC (sTC (sTC (sTC (sTC x l0 0 (tC x l1 0)) l0 1 (tC (sTC x l0 0 (tC x l1 0)) l1 1)) l0 2 (tC (sTC (sTC x l0 0 (tC x l1 0)) l0 1 (tC (sTC x l0 0 (tC x l1 0)) l1 1)) l1 2)) l0 3 (tC (sTC (sTC (sTC x l0 0 (tC x l1 0)) l0 1 (tC (sTC x l0 0 (tC x l1 0)) l1 1)) l0 2 (tC (sTC (sTC x l0 0 (tC x l1 0)) l0 1 (tC (sTC x l0 0 (tC x l1 0)) l1 1)) l1 2)) l1 3)) l1 4)) l0 5 (tF (sTC (sTC (sTC (sTC (sTC x l0 0 (tC x l1 0)) l0 1 (tC (sTC x l0 0 (tC x l1 0)) l1 1)) l0 2 (tC (sTC (sTC x l0 0 (tC x l1 0)) l0 1 (tC (sTC x l0 0 (tC x l1 0)) l1 1)) l1 2)) l0 3 (tC (sTC (sTC (sTC x l0 0 (tC x l1 0)) l0 1 (tC (sTC x l0 0 (tC x l1 0)) l1 1)) l0 2 (tC (sTC (sTC x l0 0 (tC x l1 0)) l0 1 (tC (sTC x l0 0 (tC x l1 0)) l1 1)) l1 2)) l1 3)) l0 4 (tC (sTC (sTC (sTC (sTC x l0 0 (tC x l1 0)) l0 1 (tC (sTC x l0 0 (tC x l1 0)) l1 1)) l0 2 (tC (sTC (sTC x l0 0 (tC x l1 0)) l0 1 (tC (sTC x l0 0 (tC x l1 0)) l1 1)) l1 2)) l0 3 (tC (sTC (sTC (sTC x l0 0 (tC x l1 0)) l0 1 (tC (sTC x l0 0 (tC x l1 0)) l1 1)) l0 2 (tC (sTC (sTC x l0 0 (tC x l1 0)) l0 1 (tC (sTC x l0 0 (tC x l1 0)) l1 1)) l1 2)) l1 3)) l1 4)) l1 5)) l1 6)) l0 7 (tF (sTF (sTF (sTC (sTC (sTC (sTC (sTC x l0 0 (tC x l1 0)) l0 1 (tC (sTC x l0 0 (tC x l1 0)) l1 1)) l0 2 (tC (sTC (sTC x l0 0 (tC x l1 0)) l0 1 (tC (sTC x l0 0 (tC x l1 0)) l1 1)) l1 2)) l0 3 (tC (sTC (sTC (sTC x l0 0 (tC x l1 0)) l0 1 (tC (sTC x l0 0 (tC x l1 0)) l1 1)) l0 2 (tC (sTC (sTC x l0 0 (tC x l1 0)) l0 1 (tC (sTC x l0 0 (tC x l1 0)) l1 1)) l1 2)) l1 3)) l0 4 (tC (sTC (sTC (sTC (sTC x l0 0 (tC x l1 0)) l0 1 (tC (sTC x l0 0 (tC x l1 0)) l1 1)) l0 2 (tC (sTC (sTC x l0 0 (tC x l1 0)) l0 1 (tC (sTC x l0 0 (tC x l1 0)) l1 1)) l1 2)) l0 3 (tC (sTC (sTC (sTC x l0 0 (tC x l1 0)) l0 1 (tC (sTC x l0 0 (tC x l1 0)) l1 1)) l0 2 (tC (sTC (sTC x l0 0 (tC x l1 0)) l0 1 (tC (sTC x l0 0 (tC x l1 0)) l1 1)) l1 2)) l1 3)) l1 4)) l0 5 (tF (sTC (sTC (sTC (sTC (sTC x l0 0 (tC x l1 0)) l0 1 (tC (sTC x l0 0 (tC x l1 0)) l1 1)) l0 2 (tC (sTC (sTC x l0 0 (tC x l1 0)) l0 1 (tC (sTC x l0 0 (tC x l1 0)) l1 1)) l1 2)) l0 3 (tC (sTC (sTC (sTC x l0 0 (tC x l1 0)) l0 1 (tC (sTC x l0 0 (tC x l1 0)) l1 1)) l0 2 (tC (sTC (sTC x l0 0 (tC x l1 0)) l0 1 (tC (sTC x l0 0 (tC x l1 0)) l1 1)) l1 2)) l1 3)) l0 4 (tC (sTC (sTC (sTC (sTC x l0 0 (tC x l1 0)) l0 1 (tC (sTC x l0 0 (tC x l1 0)) l1 1)) l0 2 (tC (sTC (sTC x l0 0 (tC x l1 0)) l0 1 (tC (sTC x l0 0 (tC x l1 0)) l1 1)) l1 2)) l0 3 (tC (sTC (sTC (sTC x l0 0 (tC x l1 0)) l0 1 (tC (sTC x l0 0 (tC x l1 0)) l1 1)) l0 2 (tC (sTC (sTC x l0 0 (tC x l1 0)) l0 1 (tC (sTC x l0 0 (tC x l1 0)) l1 1)) l1 2)) l1 3)) l1 4)) l1 5)) l0 6 (tF (sTF (sTC (sTC (sTC (sTC (sTC x l0 0 (tC x l1 0)) l0 1 (tC (sTC x l0 0 (tC x l1 0)) l1 1)) l0 2 (tC (sTC (sTC x l0 0 (tC x l1 0)) l0 1 (tC (sTC x l0 0 (tC x l1 0)) l1 1)) l1 2)) l0 3 (tC (sTC (sTC (sTC x l0 0 (tC x l1 0)) l0 1 (tC (sTC x l0 0 (tC x l1 0)) l1 1)) l0 2 (tC (sTC (sTC x l0 0 (tC x l1 0)) l0 1 (tC (sTC x l0 0 (tC x l1 0)) l1 1)) l1 2)) l1 3)) l0 4 (tC (sTC (sTC (sTC (sTC x l0 0 (tC x l1 0)) l0 1 (tC (sTC x l0 0 (tC x l1 0)) l1 1)) l0 2 (tC (sTC (sTC x l0 0 (tC x l1 0)) l0 1 (tC (sTC x l0 0 (tC x l1 0)) l1 1)) l1 2)) l0 3 (tC (sTC (sTC (sTC x l0 0 (tC x l1 0)) l0 1 (tC (sTC x l0 0 (tC x l1 0)) l1 1)) l0 2 (tC (sTC (sTC x l0 0 (tC x l1 0)) l0 1 (tC (sTC x l0 0 (tC x l1 0)) l1 1)) l1 2)) l1 3)) l1 4)) l0 5 (tF (sTC (sTC (sTC (sTC (sTC x l0 0 (tC x l1 0)) l0 1 (tC (sTC x l0 0 (tC x l1 0)) l1 1)) l0 2 (tC (sTC (sTC x l0 0 (tC x l1 0)) l0 1 (tC (sTC x l0 0 (tC x l1 0)) l1 1)) l1 2)) l0 3 (tC (sTC (sTC (sTC x l0 0 (tC x l1 0)) l0 1 (tC (sTC x l0 0 (tC x l1 0)) l1 1)) l0 2 (tC (sTC (sTC x l0 0 (tC x l1 0)) l0 1 (tC (sTC x l0 0 (tC x l1 0)) l1 1)) l1 2)) l1 3)) l0 4 (tC (sTC (sTC (sTC (sTC x l0 0 (tC x l1 0)) l0 1 (tC (sTC x l0 0 (tC x l1 0)) l1 1)) l0 2 (tC (sTC (sTC x l0 0 (tC x l1 0)) l0 1 (tC (sTC x l0 0 (tC x l1 0)) l1 1)) l1 2)) l0 3 (tC (sTC (sTC (sTC x l0 0 (tC x l1 0)) l0 1 (tC (sTC x l0 0 (tC x l1 0)) l1 1)) l0 2 (tC (sTC (sTC x l0 0 (tC x l1 0)) l0 1 (tC (sTC x l0 0 (tC x l1 0)) l1 1)) l1 2)) l1 3)) l1 4)) l1 5)) l1 6)) l1 7)) l0 8 (tF (sTF (sTF (sTF (sTC (sTC (sTC (sTC (sTC x l0 0 (tC x l1 0)) l0 1 (tC (sTC x l0 0 (tC x l1 0)) l1 1)) l0 2 (tC (sTC (sTC x l0 0 (tC x l1 0)) l0 1 (tC (sTC x l0 0 (tC x l1 0)) l1 1)) l1 2)) l0 3 (tC (sTC (sTC (sTC x l0 0 (tC x l1 0)) l0 1 (tC (sTC x l0 0 (tC x l1 0)) l1 1)) l0 2 (tC (sTC (sTC x l0 0 (tC x l1 0)) l0 1 (tC (sTC x l0 0 (tC x l1 0)) l1 1)) l1 2)) l1 3)) l0 4 (tC (sTC (sTC (sTC (sTC x l0 0 (tC x l1 0)) l0 1 (tC (sTC x l0 0 (tC x l1 0)) l1 1)) l0 2 (tC (sTC (sTC x l0 0 (tC x l1 0)) l0 1 (tC (sTC x l0 0 (tC x l1 0)) l1 1)) l1 2)) l0 3 (tC (sTC (sTC (sTC x l0 0 (tC x l1 0)) l0 1 (tC (sTC x l0 0 (tC x l1 0)) l1 1)) l0 2 (tC (sTC (sTC x l0 0 (tC x l1 0)) l0 1 (tC (sTC x l0 0 (tC x l1 0)) l1 1)) l1 2)) l1 3)) l1 4)) l0 5 (tF (sTC (sTC (sTC (sTC (sTC x l0 0 (tC x l1 0)) l0 1 (tC (sTC x l0 0 (tC x l1 0)) l1 1)) l0 2 (tC (sTC (sTC x l0 0 (tC x l1 0)) l0 1 (tC (sTC x l0 0 (tC x l1 0)) l1 1)) l1 2)) l0 3 (tC (sTC (sTC (sTC x l0 0 (tC x l1 0)) l0 1 (tC (sTC x l0 0 (tC x l1 0)) l1 1)) l0 2 (tC (sTC (sTC x l0 0 (tC x l1 0)) l0 1 (tC (sTC x l0 0 (tC x l1 0)) l1 1)) l1 2)) l1 3)) l0 4 (tC (sTC (sTC (sTC (sTC x l0 0 (tC x l1 0)) l0 1 (tC (sTC x l0 0 (tC x l1 0)) l1 1)) l0 2 (tC (sTC (sTC x l0 0 (tC x l1 0)) l0 1 (tC (sTC x l0 0 (tC x l1 0)) l1 1)) l1 2)) l0 3 (tC (sTC (sTC (sTC x l0 0 (tC x l1 0)) l0 1 (tC (sTC x l0 0 (tC x l1 0)) l1 1)) l0 2 (tC (sTC (sTC x l0 0 (tC x l1 0)) l0 1 (tC (sTC x l0 0 (tC x l1 0)) l1 1)) l1 2)) l1 3)) l1 4)) l1 5)) l0 6 (tF (sTF (sTC (sTC (sTC (sTC (sTC x l0 0 (tC x l1 0)) l0 1 (tC (sTC x l0 0 (tC x l1 0)) l1 1)) l0 2 (tC (sTC (sTC x l0 0 (tC x l1 0)) l0 1 (tC (sTC x l0 0 (tC x l1 0)) l1 1)) l1 2)) l0 3 (tC (sTC (sTC (sTC x l0 0 (tC x l1 0)) l0 1 (tC (sTC x l0 0 (tC x l1 0)) l1 1)) l0 2 (tC (sTC (sTC x l0 0 (tC x l1 0)) l0 1 (tC (sTC x l0 0 (tC x l1 0)) l1 1)) l1 2)) l1 3)) l0 4 (tC (sTC (sTC (sTC (sTC x l0 0 (tC x l1 0)) l0 1 (tC (sTC x l0 0 (tC x l1 0)) l1 1)) l0 2 (tC (sTC (sTC x l0 0 (tC x l1 0)) l0 1 (tC (sTC x l0 0 (tC x l1 0)) l1 1)) l1 2)) l0 3 (tC (sTC (sTC (sTC x l0 0 (tC x l1 0)) l0 1 (tC (sTC x l0 0 (tC x l1 0)) l1 1)) l0 2 (tC (sTC (sTC x l0 0 (tC x l1 0)) l0 1 (tC (sTC x l0 0 (tC x l1 0)) l1 1)) l1 2)) l1 3)) l1 4)) l0 5 (tF (sTC (sTC (sTC (sTC (sTC x l0 0 (tC x l1 0)) l0 1 (tC (sTC x l0 0 (tC x l1 0)) l1 1)) l0 2 (tC (sTC (sTC x l0 0 (tC x l1 0)) l0 1 (tC (sTC x l0 0 (tC x l1 0)) l1 1)) l1 2)) l0 3 (tC (sTC (sTC (sTC x l0 0 (tC x l1 0)) l0 1 (tC (sTC x l0 0 (tC x l1 0)) l1 1)) l0 2 (tC (sTC (sTC x l0 0 (tC x l1 0)) l0 1 (tC (sTC x l0 0 (tC x l1 0)) l1 1)) l1 2)) l1 3)) l0 4 (tC (sTC (sTC (sTC (sTC x l0 0 (tC x l1 0)) l0 1 (tC (sTC x l0 0 (tC x l1 0)) l1 1)) l0 2 (tC (sTC (sTC x l0 0 (tC x l1 0)) l0 1 (tC (sTC x l0 0 (tC x l1 0)) l1 1)) l1 2)) l0 3 (tC (sTC (sTC (sTC x l0 0 (tC x l1 0)) l0 1 (tC (sTC x l0 0 (tC x l1 0)) l1 1)) l0 2 (tC (sTC (sTC x l0 0 (tC x l1 0)) l0 1 (tC (sTC x l0 0 (tC x l1 0)) l1 1)) l1 2)) l1 3)) l1 4)) l1 5)) l1 6)) l0 7 (tF (sTF (sTF (sTC (sTC (sTC (sTC (sTC x l0 0 (tC x l1 0)) l0 1 (tC (sTC x l0 0 (tC x l1 0)) l1 1)) l0 2 (tC (sTC (sTC x l0 0 (tC x l1 0)) l0 1 (tC (sTC x l0 0 (tC x l1 0)) l1 1)) l1 2)) l0 3 (tC (sTC (sTC (sTC x l0 0 (tC x l1 0)) l0 1 (tC (sTC x l0 0 (tC x l1 0)) l1 1)) l0 2 (tC (sTC (sTC x l0 0 (tC x l1 0)) l0 1 (tC (sTC x l0 0 (tC x l1 0)) l1 1)) l1 2)) l1 3)) l0 4 (tC (sTC (sTC (sTC (sTC x l0 0 (tC x l1 0)) l0 1 (tC (sTC x l0 0 (tC x l1 0)) l1 1)) l0 2 (tC (sTC (sTC x l0 0 (tC x l1 0)) l0 1 (tC (sTC x l0 0 (tC x l1 0)) l1 1)) l1 2)) l0 3 (tC (sTC (sTC (sTC x l0 0 (tC x l1 0)) l0 1 (tC (sTC x l0 0 (tC x l1 0)) l1 1)) l0 2 (tC (sTC (sTC x l0 0 (tC x l1 0)) l0 1 (tC (sTC x l0 0 (tC x l1 0)) l1 1)) l1 2)) l1 3)) l1 4)) l0 5 (tF (sTC (sTC (sTC (sTC (sTC x l0 0 (tC x l1 0)) l0 1 (tC (sTC x l0 0 (tC x l1 0)) l1 1)) l0 2 (tC (sTC (sTC x l0 0 (tC x l1 0)) l0 1 (tC (sTC x l0 0 (tC x l1 0)) l1 1)) l1 2)) l0 3 (tC (sTC (sTC (sTC x l0 0 (tC x l1 0)) l0 1 (tC (sTC x l0 0 (tC x l1 0)) l1 1)) l0 2 (tC (sTC (sTC x l0 0 (tC x l1 0)) l0 1 (tC (sTC x l0 0 (tC x l1 0)) l1 1)) l1 2)) l1 3)) l0 4 (tC (sTC (sTC (sTC (sTC x l0 0 (tC x l1 0)) l0 1 (tC (sTC x l0 0 (tC x l1 0)) l1 1)) l0 2 (tC (sTC (sTC x l0 0 (tC x l1 0)) l0 1 (tC (sTC x l0 0 (tC x l1 0)) l1 1)) l1 2)) l0 3 (tC (sTC (sTC (sTC x l0 0 (tC x l1 0)) l0 1 (tC (sTC x l0 0 (tC x l1 0)) l1 1)) l0 2 (tC (sTC (sTC x l0 0 (tC x l1 0)) l0 1 (tC (sTC x l0 0 (tC x l1 0)) l1 1)) l1 2)) l1 3)) l1 4)) l1 5)) l0 6 (tF (sTF (sTC (sTC (sTC (sTC (sTC x l0 0 (tC x l1 0)) l0 1 (tC (sTC x l0 0 (tC x l1 0)) l1 1)) l0 2 (tC (sTC (sTC x l0 0 (tC x l1 0)) l0 1 (tC (sTC x l0 0 (tC x l1 0)) l1 1)) l1 2)) l0 3 (tC (sTC (sTC (sTC x l0 0 (tC x l1 0)) l0 1 (tC (sTC x l0 0 (tC x l1 0)) l1 1)) l0 2 (tC (sTC (sTC x l0 0 (tC x l1 0)) l0 1 (tC (sTC x l0 0 (tC x l1 0)) l1 1)) l1 2)) l1 3)) l0 4 (tC (sTC (sTC (sTC (sTC x l0 0 (tC x l1 0)) l0 1 (tC (sTC x l0 0 (tC x l1 0)) l1 1)) l0 2 (tC (sTC (sTC x l0 0 (tC x l1 0)) l0 1 (tC (sTC x l0 0 (tC x l1 0)) l1 1)) l1 2)) l0 3 (tC (sTC (sTC (sTC x l0 0 (tC x l1 0)) l0 1 (tC (sTC x l0 0 (tC x l1 0)) l1 1)) l0 2 (tC (sTC (sTC x l0 0 (tC x l1 0)) l0 1 (tC (sTC x l0 0 (tC x l1 0)) l1 1)) l1 2)) l1 3)) l1 4)) l0 5 (tF (sTC (sTC (sTC (sTC (sTC x l0 0 (tC x l1 0)) l0 1 (tC (sTC x l0 0 (tC x l1 0)) l1 1)) l0 2 (tC (sTC (sTC x l0 0 (tC x l1 0)) l0 1 (tC (sTC x l0 0 (tC x l1 0)) l1 1)) l1 2)) l0 3 (tC (sTC (sTC (sTC x l0 0 (tC x l1 0)) l0 1 (tC (sTC x l0 0 (tC x l1 0)) l1 1)) l0 2 (tC (sTC (sTC x l0 0 (tC x l1 0)) l0 1 (tC (sTC x l0 0 (tC x l1 0)) l1 1)) l1 2)) l1 3)) l0 4 (tC (sTC (sTC (sTC (sTC x l0 0 (tC x l1 0)) l0 1 (tC (sTC x l0 0 (tC x l1 0)) l1 1)) l0 2 (tC (sTC (sTC x l0 0 (tC x l1 0)) l0 1 (tC (sTC x l0 0 (tC x l1 0)) l1 1)) l1 2)) l0 3 (tC (sTC (sTC (sTC x l0 0 (tC x l1 0)) l0 1 (tC (sTC x l0 0 (tC x l1 0)) l1 1)) l0 2 (tC (sTC (sTC x l0 0 (tC x l1 0)) l0 1 (tC (sTC x l0 0 (tC x l1 0)) l1 1)) l1 2)) l1 3)) l1 4)) l1 5)) l1 6)) l1 7)) l1 8)) l1 9)) l0 10 (tF (sTF (sTF (sTF (sTF (sTF (sTC (sTC (sTC (sTC (sTC x l0 0 (tC x l1 0)) l0 1 (tC (sTC x l0 0 (tC x l1 0)) l1 1)) l0 2 (tC (sTC (sTC x l0 0 (tC x l1 0)) l0 1 (tC (sTC x l0 0 (tC x l1 0)) l1 1)) l1 2)) l0 3 (tC (sTC (sTC (sTC x l0 0 (tC x l1 0)) l0 1 (tC (sTC x l0 0 (tC x l1 0)) l1 1)) l0 2 (tC (sTC (sTC x l0 0 (tC x l1 0)) l0 1 (tC (sTC x l0 0 (tC x l1 0)) l1 1)) l1 2)) l1 3)) l0 4 (tC (sTC (sTC (sTC (sTC x l0 0 (tC x l1 0)) l0 1 (tC (sTC x l0 0 (tC x l1 0)) l1 1)) l0 2 (tC (sTC (sTC x l0 0 (tC x l1 0)) l0 1 (tC (sTC x l0 0 (tC x l1 0)) l1 1)) l1 2)) l0 3 (tC (sTC (sTC (sTC x l0 0 (tC x l1 0)) l0 1 (tC (sTC x l0 0 (tC x l1 0)) l1 1)) l0 2 (tC (sTC (sTC x l0 0 (tC x l1 0)) l0 1 (tC (sTC x l0 0 (tC x l1 0)) l1 1)) l1 2)) l1 3)) l1 4)) l0 5 (tF (sTC (sTC (sTC (sTC (sTC x l0 0 (tC x l1 0)) l0 1 (tC (sTC x l0 0 (tC x l1 0)) l1 1)) l0 2 (tC (sTC (sTC x l0 0 (tC x l1 0)) l0 1 (tC (sTC x l0 0 (tC x l1 0)) l1 1)) l1 2)) l0 3 (tC (sTC (sTC (sTC x l0 0 (tC x l1 0)) l0 1 (tC (sTC x l0 0 (tC x l1 0)) l1 1)) l0 2 (tC (sTC (sTC x l0 0 (tC x l1 0)) l0 1 (tC (sTC x l0 0 (tC x l1 0)) l1 1)) l1 2)) l1 3)) l0 4 (tC (sTC (sTC (sTC (sTC x l0 0 (tC x l1 0)) l0 1 (tC (sTC x l0 0 (tC x l1 0)) l1 1)) l0 2 (tC (sTC (sTC x l0 0 (tC x l1 0)) l0 1 (tC (sTC x l0 0 (tC x l1 0)) l1 1)) l1 2)) l0 3 (tC (sTC (sTC (sTC x l0 0 (tC x l1 0)) l0 1 (tC (sTC x l0 0 (tC x l1 0)) l1 1)) l0 2 (tC (sTC (sTC x l0 0 (tC x l1 0)) l0 1 (tC (sTC x l0 0 (tC x l1 0)) l1 1)) l1 2)) l1 3)) l1 4)) l1 5)) l0 6 (tF (sTF (sTC (sTC (sTC (sTC (sTC x l0 0 (tC x l1 0)) l0 1 (tC (sTC x l0 0 (tC x l1 0)) l1 1)) l0 2 (tC (sTC (sTC x l0 0 (tC x l1 0)) l0 1 (tC (sTC x l0 0 (tC x l1 0)) l1 1)) l1 2)) l0 3 (tC (sTC (sTC (sTC x l0 0 (tC x l1 0)) l0 1 (tC (sTC x l0 0 (tC x l1 0)) l1 1)) l0 2 (tC (sTC (sTC x l0 0 (tC x l1 0)) l0 1 (tC (sTC x l0 0 (tC x l1 0)) l1 1)) l1 2)) l1 3)) l0 4 (tC (sTC (sTC (sTC (sTC x l0 0 (tC x l1 0)) l0 1 (tC (sTC x l0 0 (tC x l1 0)) l1 1)) l0 2 (tC (sTC (sTC x l0 0 (tC x l1 0)) l0 1 (tC (sTC x l0 0 (tC x l1 0)) l1 1)) l1 2)) l0 3 (tC (sTC (sTC (sTC x l0 0 (tC x l1 0)) l0 1 (tC (sTC x l0 0 (tC x l1 0)) l1 1)) l0 2 (tC (sTC (sTC x l0 0 (tC x l1 0)) l0 1 (tC (sTC x l0 0 (tC x l1 0)) l1 1)) l1 2)) l1 3)) l1 4)) l0 5 (tF (sTC (sTC (sTC (sTC (sTC x l0 0 (tC x l1 0)) l0 1 (tC (sTC x l0 0 (tC x l1 0)) l1 1)) l0 2 (tC (sTC (sTC x l0 0 (tC x l1 0)) l0 1 (tC (sTC x l0 0 (tC x l1 0)) l1 1)) l1 2)) l0 3 (tC (sTC (sTC (sTC x l0 0 (tC x l1 0)) l0 1 (tC (sTC x l0 0 (tC x l1 0)) l1 1)) l0 2 (tC (sTC (sTC x l0 0 (tC x l1 0)) l0 1 (tC (sTC x l0 0 (tC x l1 0)) l1 1)) l1 2)) l1 3)) l0 4 (tC (sTC (sTC (sTC (sTC x l0 0 (tC x l1 0)) l0 1 (tC (sTC x l0 0 (tC x l1 0)) l1 1)) l0 2 (tC (sTC (sTC x l0 0 (tC x l1 0)) l0 1 (tC (sTC x l0 0 (tC x l1 0)) l1 1)) l1 2)) l0 3 (tC (sTC (sTC (sTC x l0 0 (tC x l1 0)) l0 1 (tC (sTC x l0 0 (tC x l1 0)) l1 1)) l0 2 (tC (sTC (sTC x l0 0 (tC x l1 0)) l0 1 (tC (sTC x l0 0 (tC x l1 0)) l1 1)) l1 2)) l1 3)) l1 4)) l1 5)) l1 6)) l0 7 (tF (sTF (sTF (sTC (sTC (sTC (sTC (sTC x l0 0 (tC x l1 0)) l0 1 (tC (sTC x l0 0 (tC x l1 0)) l1 1)) l0 2 (tC (sTC (sTC x l0 0 (tC x l1 0)) l0 1 (tC (sTC x l0 0 (tC x l1 0)) l1 1)) l1 2)) l0 3 (tC (sTC (sTC (sTC x l0 0 (tC x l1 0)) l0 1 (tC (sTC x l0 0 (tC x l1 0)) l1 1)) l0 2 (tC (sTC (sTC x l0 0 (tC x l1 0)) l0 1 (tC (sTC x l0 0 (tC x l1 0)) l1 1)) l1 2)) l1 3)) l0 4 (tC (sTC (sTC (sTC (sTC x l0 0 (tC x l1 0)) l0 1 (tC (sTC x l0 0 (tC x l1 0)) l1 1)) l0 2 (tC (sTC (sTC x l0 0 (tC x l1 0)) l0 1 (tC (sTC x l0 0 (tC x l1 0)) l1 1)) l1 2)) l0 3 (tC (sTC (sTC (sTC x l0 0 (tC x l1 0)) l0 1 (tC (sTC x l0 0 (tC x l1 0)) l1 1)) l0 2 (tC (sTC (sTC x l0 0 (tC x l1 0)) l0 1 (tC (sTC x l0 0 (tC x l1 0)) l1 1)) l1 2)) l1 3)) l1 4)) l0 5 (tF (sTC (sTC (sTC (sTC (sTC x l0 0 (tC x l1 0)) l0 1 (tC (sTC x l0 0 (tC x l1 0)) l1 1)) l0 2 (tC (sTC (sTC x l0 0 (tC x l1 0)) l0 1 (tC (sTC x l0 0 (tC x l1 0)) l1 1)) l1 2)) l0 3 (tC (sTC (sTC (sTC x l0 0 (tC x l1 0)) l0 1 (tC (sTC x l0 0 (tC x l1 0)) l1 1)) l0 2 (tC (sTC (sTC x l0 0 (tC x l1 0)) l0 1 (tC (sTC x l0 0 (tC x l1 0)) l1 1)) l1 2)) l1 3)) l0 4 (tC (sTC (sTC (sTC (sTC x l0 0 (tC x l1 0)) l0 1 (tC (sTC x l0 0 (tC x l1 0)) l1 1)) l0 2 (tC (sTC (sTC x l0 0 (tC x l1 0)) l0 1 (tC (sTC x l0 0 (tC x l1 0)) l1 1)) l1 2)) l0 3 (tC (sTC (sTC (sTC x l0 0 (tC x l1 0)) l0 1 (tC (sTC x l0 0 (tC x l1 0)) l1 1)) l0 2 (tC (sTC (sTC x l0 0 (tC x l1 0)) l0 1 (tC (sTC x l0 0 (tC x l1 0)) l1 1)) l1 2)) l1 3)) l1 4)) l1 5)) l0 6 (tF (sTF (sTC (sTC (sTC (sTC (sTC x l0 0 (tC x l1 0)) l0 1 (tC (sTC x l0 0 (tC x l1 0)) l1 1)) l0 2 (tC (sTC (sTC x l0 0 (tC x l1 0)) l0 1 (tC (sTC x l0 0 (tC x l1 0)) l1 1)) l1 2)) l0 3 (tC (sTC (sTC (sTC x l0 0 (tC x l1 0)) l0 1 (tC (sTC x l0 0 (tC x l1 0)) l1 1)) l0 2 (tC (sTC (sTC x l0 0 (tC x l1 0)) l0 1 (tC (sTC x l0 0 (tC x l1 0)) l1 1)) l1 2)) l1 3)) l0 4 (tC (sTC (sTC (sTC (sTC x l0 0 (tC x l1 0)) l0 1 (tC (sTC x l0 0 (tC x l1 0)) l1 1)) l0 2 (tC (sTC (sTC x l0 0 (tC x l1 0)) l0 1 (tC (sTC x l0 0 (tC x l1 0)) l1 1)) l1 2)) l0 3 (tC (sTC (sTC (sTC x l0 0 (tC x l1 0)) l0 1 (tC (sTC x l0 0 (tC x l1 0)) l1 1)) l0 2 (tC (sTC (sTC x l0 0 (tC x l1 0)) l0 1 (tC (sTC x l0 0 (tC x l1 0)) l1 1)) l1 2)) l1 3)) l1 4)) l0 5 (tF (sTC (sTC (sTC (sTC (sTC x l0 0 (tC x l1 0)) l0 1 (tC (sTC x l0 0 (tC x l1 0)) l1 1)) l0 2 (tC (sTC (sTC x l0 0 (tC x l1 0)) l0 1 (tC (sTC x l0 0 (tC x l1 0)) l1 1)) l1 2)) l0 3 (tC (sTC (sTC (sTC x l0 0 (tC x l1 0)) l0 1 (tC (sTC x l0 0 (tC x l1 0)) l1 1)) l0 2 (tC (sTC (sTC x l0 0 (tC x l1 0)) l0 1 (tC (sTC x l0 0 (tC x l1 0)) l1 1)) l1 2)) l1 3)) l0 4 (tC (sTC (sTC (sTC (sTC x l0 0 (tC x l1 0)) l0 1 (tC (sTC x l0 0 (tC x l1 0)) l1 1)) l0 2 (tC (sTC (sTC x l0 0 (tC x l1 0)) l0 1 (tC (sTC x l0 0 (tC x l1 0)) l1 1)) l1 2)) l0 3 (tC (sTC (sTC (sTC x l0 0 (tC x l1 0)) l0 1 (tC (sTC x l0 0 (tC x l1 0)) l1 1)) l0 2 (tC (sTC (sTC x l0 0 (tC x l1 0)) l0 1 (tC (sTC x l0 0 (tC x l1 0)) l1 1)) l1 2)) l1 3)) l1 4)) l1 5)) l1 6)) l1 7)) l0 8 (tF (sTF (sTF (sTF (sTC (sTC (sTC (sTC (sTC x l0 0 (tC x l1 0)) l0 1 (tC (sTC x l0 0 (tC x l1 0)) l1 1)) l0 2 (tC (sTC (sTC x l0 0 (tC x l1 0)) l0 1 (tC (sTC x l0 0 (tC x l1 0)) l1 1)) l1 2)) l0 3 (tC (sTC (sTC (sTC x l0 0 (tC x l1 0)) l0 1 (tC (sTC x l0 0 (tC x l1 0)) l1 1)) l0 2 (tC (sTC (sTC x l0 0 (tC x l1 0)) l0 1 (tC (sTC x l0 0 (tC x l1 0)) l1 1)) l1 2)) l1 3)) l0 4 (tC (sTC (sTC (sTC (sTC x l0 0 (tC x l1 0)) l0 1 (tC (sTC x l0 0 (tC x l1 0)) l1 1)) l0 2 (tC (sTC (sTC x l0 0 (tC x l1 0)) l0 1 (tC (sTC x l0 0 (tC x l1 0)) l1 1)) l1 2)) l0 3 (tC (sTC (sTC (sTC x l0 0 (tC x l1 0)) l0 1 (tC (sTC x l0 0 (tC x l1 0)) l1 1)) l0 2 (tC (sTC (sTC x l0 0 (tC x l1 0)) l0 1 (tC (sTC x l0 0 (tC x l1 0)) l1 1)) l1 2)) l1 3)) l1 4)) l0 5 (tF (sTC (sTC (sTC (sTC (sTC x l0 0 (tC x l1 0)) l0 1 (tC (sTC x l0 0 (tC x l1 0)) l1 1)) l0 2 (tC (sTC (sTC x l0 0 (tC x l1 0)) l0 1 (tC (sTC x l0 0 (tC x l1 0)) l1 1)) l1 2)) l0 3 (tC (sTC (sTC (sTC x l0 0 (tC x l1 0)) l0 1 (tC (sTC x l0 0 (tC x l1 0)) l1 1)) l0 2 (tC (sTC (sTC x l0 0 (tC x l1 0)) l0 1 (tC (sTC x l0 0 (tC x l1 0)) l1 1)) l1 2)) l1 3)) l0 4 (tC (sTC (sTC (sTC (sTC x l0 0 (tC x l1 0)) l0 1 (tC (sTC x l0 0 (tC x l1 0)) l1 1)) l0 2 (tC (sTC (sTC x l0 0 (tC x l1 0)) l0 1 (tC (sTC x l0 0 (tC x l1 0)) l1 1)) l1 2)) l0 3 (tC (sTC (sTC (sTC x l0 0 (tC x l1 0)) l0 1 (tC (sTC x l0 0 (tC x l1 0)) l1 1)) l0 2 (tC (sTC (sTC x l0 0 (tC x l1 0)) l0 1 (tC (sTC x l0 0 (tC x l1 0)) l1 1)) l1 2)) l1 3)) l1 4)) l1 5)) l0 6 (tF (sTF (sTC (sTC (sTC (sTC (sTC x l0 0 (tC x l1 0)) l0 1 (tC (sTC x l0 0 (tC x l1 0)) l1 1)) l0 2 (tC (sTC (sTC x l0 0 (tC x l1 0)) l0 1 (tC (sTC x l0 0 (tC x l1 0)) l1 1)) l1 2)) l0 3 (tC (sTC (sTC (sTC x l0 0 (tC x l1 0)) l0 1 (tC (sTC x l0 0 (tC x l1 0)) l1 1)) l0 2 (tC (sTC (sTC x l0 0 (tC x l1 0)) l0 1 (tC (sTC x l0 0 (tC x l1 0)) l1 1)) l1 2)) l1 3)) l0 4 (tC (sTC (sTC (sTC (sTC x l0 0 (tC x l1 0)) l0 1 (tC (sTC x l0 0 (tC x l1 0)) l1 1)) l0 2 (tC (sTC (sTC x l0 0 (tC x l1 0)) l0 1 (tC (sTC x l0 0 (tC x l1 0)) l1 1)) l1 2)) l0 3 (tC (sTC (sTC (sTC x l0 0 (tC x l1 0)) l0 1 (tC (sTC x l0 0 (tC x l1 0)) l1 1)) l0 2 (tC (sTC (sTC x l0 0 (tC x l1 0)) l0 1 (tC (sTC x l0 0 (tC x l1 0)) l1 1)) l1 2)) l1 3)) l1 4)) l0 5 (tF (sTC (sTC (sTC (sTC (sTC x l0 0 (tC x l1 0)) l0 1 (tC (sTC x l0 0 (tC x l1 0)) l1 1)) l0 2 (tC (sTC (sTC x l0 0 (tC x l1 0)) l0 1 (tC (sTC x l0 0 (tC x l1 0)) l1 1)) l1 2)) l0 3 (tC (sTC (sTC (sTC x l0 0 (tC x l1 0)) l0 1 (tC (sTC x l0 0 (tC x l1 0)) l1 1)) l0 2 (tC (sTC (sTC x l0 0 (tC x l1 0)) l0 1 (tC (sTC x l0 0 (tC x l1 0)) l1 1)) l1 2)) l1 3)) l0 4 (tC (sTC (sTC (sTC (sTC x l0 0 (tC x l1 0)) l0 1 (tC (sTC x l0 0 (tC x l1 0)) l1 1)) l0 2 (tC (sTC (sTC x l0 0 (tC x l1 0)) l0 1 (tC (sTC x l0 0 (tC x l1 0)) l1 1)) l1 2)) l0 3 (tC (sTC (sTC (sTC x l0 0 (tC x l1 0)) l0 1 (tC (sTC x l0 0 (tC x l1 0)) l1 1)) l0 2 (tC (sTC (sTC x l0 0 (tC x l1 0)) l0 1 (tC (sTC x l0 0 (tC x l1 0)) l1 1)) l1 2)) l1 3)) l1 4)) l1 5)) l1 6)) l0 7 (tF (sTF (sTF (sTC (sTC (sTC (sTC (sTC x l0 0 (tC x l1 0)) l0 1 (tC (sTC x l0 0 (tC x l1 0)) l1 1)) l0 2 (tC (sTC (sTC x l0 0 (tC x l1 0)) l0 1 (tC (sTC x l0 0 (tC x l1 0)) l1 1)) l1 2)) l0 3 (tC (sTC (sTC (sTC x l0 0 (tC x l1 0)) l0 1 (tC (sTC x l0 0 (tC x l1 0)) l1 1)) l0 2 (tC (sTC (sTC x l0 0 (tC x l1 0)) l0 1 (tC (sTC x l0 0 (tC x l1 0)) l1 1)) l1 2)) l1 3)) l0 4 (tC (sTC (sTC (sTC (sTC x l0 0 (tC x l1 0)) l0 1 (tC (sTC x l0 0 (tC x l1 0)) l1 1)) l0 2 (tC (sTC (sTC x l0 0 (tC x l1 0)) l0 1 (tC (sTC x l0 0 (tC x l1 0)) l1 1)) l1 2)) l0 3 (tC (sTC (sTC (sTC x l0 0 (tC x l1 0)) l0 1 (tC (sTC x l0 0 (tC x l1 0)) l1 1)) l0 2 (tC (sTC (sTC x l0 0 (tC x l1 0)) l0 1 (tC (sTC x l0 0 (tC x l1 0)) l1 1)) l1 2)) l1 3)) l1 4)) l0 5 (tF (sTC (sTC (sTC (sTC (sTC x l0 0 (tC x l1 0)) l0 1 (tC (sTC x l0 0 (tC x l1 0)) l1 1)) l0 2 (tC (sTC (sTC x l0 0 (tC x l1 0)) l0 1 (tC (sTC x l0 0 (tC x l1 0)) l1 1)) l1 2)) l0 3 (tC (sTC (sTC (sTC x l0 0 (tC x l1 0)) l0 1 (tC (sTC x l0 0 (tC x l1 0)) l1 1)) l0 2 (tC (sTC (sTC x l0 0 (tC x l1 0)) l0 1 (tC (sTC x l0 0 (tC x l1 0)) l1 1)) l1 2)) l1 3)) l0 4 (tC (sTC (sTC (sTC (sTC x l0 0 (tC x l1 0)) l0 1 (tC (sTC x l0 0 (tC x l1 0)) l1 1)) l0 2 (tC (sTC (sTC x l0 0 (tC x l1 0)) l0 1 (tC (sTC x l0 0 (tC x l1 0)) l1 1)) l1 2)) l0 3 (tC (sTC (sTC (sTC x l0 0 (tC x l1 0)) l0 1 (tC (sTC x l0 0 (tC x l1 0)) l1 1)) l0 2 (tC (sTC (sTC x l0 0 (tC x l1 0)) l0 1 (tC (sTC x l0 0 (tC x l1 0)) l1 1)) l1 2)) l1 3)) l1 4)) l1 5)) l0 6 (tF (sTF (sTC (sTC (sTC (sTC (sTC x l0 0 (tC x l1 0)) l0 1 (tC (sTC x l0 0 (tC x l1 0)) l1 1)) l0 2 (tC (sTC (sTC x l0 0 (tC x l1 0)) l0 1 (tC (sTC x l0 0 (tC x l1 0)) l1 1)) l1 2)) l0 3 (tC (sTC (sTC (sTC x l0 0 (tC x l1 0)) l0 1 (tC (sTC x l0 0 (tC x l1 0)) l1 1)) l0 2 (tC (sTC (sTC x l0 0 (tC x l1 0)) l0 1 (tC (sTC x l0 0 (tC x l1 0)) l1 1)) l1 2)) l1 3)) l0 4 (tC (sTC (sTC (sTC (sTC x l0 0 (tC x l1 0)) l0 1 (tC (sTC x l0 0 (tC x l1 0)) l1 1)) l0 2 (tC (sTC (sTC x l0 0 (tC x l1 0)) l0 1 (tC (sTC x l0 0 (tC x l1 0)) l1 1)) l1 2)) l0 3 (tC (sTC (sTC (sTC x l0 0 (tC x l1 0)) l0 1 (tC (sTC x l0 0 (tC x l1 0)) l1 1)) l0 2 (tC (sTC (sTC x l0 0 (tC x l1 0)) l0 1 (tC (sTC x l0 0 (tC x l1 0)) l1 1)) l1 2)) l1 3)) l1 4)) l0 5 (tF (sTC (sTC (sTC (sTC (sTC x l0 0 (tC x l1 0)) l0 1 (tC (sTC x l0 0 (tC x l1 0)) l1 1)) l0 2 (tC (sTC (sTC x l0 0 (tC x l1 0)) l0 1 (tC (sTC x l0 0 (tC x l1 0)) l1 1)) l1 2)) l0 3 (tC (sTC (sTC (sTC x l0 0 (tC x l1 0)) l0 1 (tC (sTC x l0 0 (tC x l1 0)) l1 1)) l0 2 (tC (sTC (sTC x l0 0 (tC x l1 0)) l0 1 (tC (sTC x l0 0 (tC x l1 0)) l1 1)) l1 2)) l1 3)) l0 4 (tC (sTC (sTC (sTC (sTC x l0 0 (tC x l1 0)) l0 1 (tC (sTC x l0 0 (tC x l1 0)) l1 1)) l0 2 (tC (sTC (sTC x l0 0 (tC x l1 0)) l0 1 (tC (sTC x l0 0 (tC x l1 0)) l1 1)) l1 2)) l0 3 (tC (sTC (sTC (sTC x l0 0 (tC x l1 0)) l0 1 (tC (sTC x l0 0 (tC x l1 0)) l1 1)) l0 2 (tC (sTC (sTC x l0 0 (tC x l1 0)) l0 1 (tC (sTC x l0 0 (tC x l1 0)) l1 1)) l1 2)) l1 3)) l1 4)) l1 5)) l1 6)) l1 7)) l1 8)) l0 9 (tF (sTF (sTF (sTF (sTF (sTC (sTC (sTC (sTC (sTC x l0 0 (tC x l1 0)) l0 1 (tC (sTC x l0 0 (tC x l1 0)) l1 1)) l0 2 (tC (sTC (sTC x l0 0 (tC x l1 0)) l0 1 (tC (sTC x l0 0 (tC x l1 0)) l1 1)) l1 2)) l0 3 (tC (sTC (sTC (sTC x l0 0 (tC x l1 0)) l0 1 (tC (sTC x l0 0 (tC x l1 0)) l1 1)) l0 2 (tC (sTC (sTC x l0 0 (tC x l1 0)) l0 1 (tC (sTC x l0 0 (tC x l1 0)) l1 1)) l1 2)) l1 3)) l0 4 (tC (sTC (sTC (sTC (sTC x l0 0 (tC x l1 0)) l0 1 (tC (sTC x l0 0 (tC x l1 0)) l1 1)) l0 2 (tC (sTC (sTC x l0 0 (tC x l1 0)) l0 1 (tC (sTC x l0 0 (tC x l1 0)) l1 1)) l1 2)) l0 3 (tC (sTC (sTC (sTC x l0 0 (tC x l1 0)) l0 1 (tC (sTC x l0 0 (tC x l1 0)) l1 1)) l0 2 (tC (sTC (sTC x l0 0 (tC x l1 0)) l0 1 (tC (sTC x l0 0 (tC x l1 0)) l1 1)) l1 2)) l1 3)) l1 4)) l0 5 (tF (sTC (sTC (sTC (sTC (sTC x l0 0 (tC x l1 0)) l0 1 (tC (sTC x l0 0 (tC x l1 0)) l1 1)) l0 2 (tC (sTC (sTC x l0 0 (tC x l1 0)) l0 1 (tC (sTC x l0 0 (tC x l1 0)) l1 1)) l1 2)) l0 3 (tC (sTC (sTC (sTC x l0 0 (tC x l1 0)) l0 1 (tC (sTC x l0 0 (tC x l1 0)) l1 1)) l0 2 (tC (sTC (sTC x l0 0 (tC x l1 0)) l0 1 (tC (sTC x l0 0 (tC x l1 0)) l1 1)) l1 2)) l1 3)) l0 4 (tC (sTC (sTC (sTC (sTC x l0 0 (tC x l1 0)) l0 1 (tC (sTC x l0 0 (tC x l1 0)) l1 1)) l0 2 (tC (sTC (sTC x l0 0 (tC x l1 0)) l0 1 (tC (sTC x l0 0 (tC x l1 0)) l1 1)) l1 2)) l0 3 (tC (sTC (sTC (sTC x l0 0 (tC x l1 0)) l0 1 (tC (sTC x l0 0 (tC x l1 0)) l1 1)) l0 2 (tC (sTC (sTC x l0 0 (tC x l1 0)) l0 1 (tC (sTC x l0 0 (tC x l1 0)) l1 1)) l1 2)) l1 3)) l1 4)) l1 5)) l0 6 (tF (sTF (sTC (sTC (sTC (sTC (sTC x l0 0 (tC x l1 0)) l0 1 (tC (sTC x l0 0 (tC x l1 0)) l1 1)) l0 2 (tC (sTC (sTC x l0 0 (tC x l1 0)) l0 1 (tC (sTC x l0 0 (tC x l1 0)) l1 1)) l1 2)) l0 3 (tC (sTC (sTC (sTC x l0 0 (tC x l1 0)) l0 1 (tC (sTC x l0 0 (tC x l1 0)) l1 1)) l0 2 (tC (sTC (sTC x l0 0 (tC x l1 0)) l0 1 (tC (sTC x l0 0 (tC x l1 0)) l1 1)) l1 2)) l1 3)) l0 4 (tC (sTC (sTC (sTC (sTC x l0 0 (tC x l1 0)) l0 1 (tC (sTC x l0 0 (tC x l1 0)) l1 1)) l0 2 (tC (sTC (sTC x l0 0 (tC x l1 0)) l0 1 (tC (sTC x l0 0 (tC x l1 0)) l1 1)) l1 2)) l0 3 (tC (sTC (sTC (sTC x l0 0 (tC x l1 0)) l0 1 (tC (sTC x l0 0 (tC x l1 0)) l1 1)) l0 2 (tC (sTC (sTC x l0 0 (tC x l1 0)) l0 1 (tC (sTC x l0 0 (tC x l1 0)) l1 1)) l1 2)) l1 3)) l1 4)) l0 5 (tF (sTC (sTC (sTC (sTC (sTC x l0 0 (tC x l1 0)) l0 1 (tC (sTC x l0 0 (tC x l1 0)) l1 1)) l0 2 (tC (sTC (sTC x l0 0 (tC x l1 0)) l0 1 (tC (sTC x l0 0 (tC x l1 0)) l1 1)) l1 2)) l0 3 (tC (sTC (sTC (sTC x l0 0 (tC x l1 0)) l0 1 (tC (sTC x l0 0 (tC x l1 0)) l1 1)) l0 2 (tC (sTC (sTC x l0 0 (tC x l1 0)) l0 1 (tC (sTC x l0 0 (tC x l1 0)) l1 1)) l1 2)) l1 3)) l0 4 (tC (sTC (sTC (sTC (sTC x l0 0 (tC x l1 0)) l0 1 (tC (sTC x l0 0 (tC x l1 0)) l1 1)) l0 2 (tC (sTC (sTC x l0 0 (tC x l1 0)) l0 1 (tC (sTC x l0 0 (tC x l1 0)) l1 1)) l1 2)) l0 3 (tC (sTC (sTC (sTC x l0 0 (tC x l1 0)) l0 1 (tC (sTC x l0 0 (tC x l1 0)) l1 1)) l0 2 (tC (sTC (sTC x l0 0 (tC x l1 0)) l0 1 (tC (sTC x l0 0 (tC x l1 0)) l1 1)) l1 2)) l1 3)) l1 4)) l1 5)) l1 6)) l0 7 (tF (sTF (sTF (sTC (sTC (sTC (sTC (sTC x l0 0 (tC x l1 0)) l0 1 (tC (sTC x l0 0 (tC x l1 0)) l1 1)) l0 2 (tC (sTC (sTC x l0 0 (tC x l1 0)) l0 1 (tC (sTC x l0 0 (tC x l1 0)) l1 1)) l1 2)) l0 3 (tC (sTC (sTC (sTC x l0 0 (tC x l1 0)) l0 1 (tC (sTC x l0 0 (tC x l1 0)) l1 1)) l0 2 (tC (sTC (sTC x l0 0 (tC x l1 0)) l0 1 (tC (sTC x l0 0 (tC x l1 0)) l1 1)) l1 2)) l1 3)) l0 4 (tC (sTC (sTC (sTC (sTC x l0 0 (tC x l1 0)) l0 1 (tC (sTC x l0 0 (tC x l1 0)) l1 1)) l0 2 (tC (sTC (sTC x l0 0 (tC x l1 0)) l0 1 (tC (sTC x l0 0 (tC x l1 0)) l1 1)) l1 2)) l0 3 (tC (sTC (sTC (sTC x l0 0 (tC x l1 0)) l0 1 (tC (sTC x l0 0 (tC x l1 0)) l1 1)) l0 2 (tC (sTC (sTC x l0 0 (tC x l1 0)) l0 1 (tC (sTC x l0 0 (tC x l1 0)) l1 1)) l1 2)) l1 3)) l1 4)) l0 5 (tF (sTC (sTC (sTC (sTC (sTC x l0 0 (tC x l1 0)) l0 1 (tC (sTC x l0 0 (tC x l1 0)) l1 1)) l0 2 (tC (sTC (sTC x l0 0 (tC x l1 0)) l0 1 (tC (sTC x l0 0 (tC x l1 0)) l1 1)) l1 2)) l0 3 (tC (sTC (sTC (sTC x l0 0 (tC x l1 0)) l0 1 (tC (sTC x l0 0 (tC x l1 0)) l1 1)) l0 2 (tC (sTC (sTC x l0 0 (tC x l1 0)) l0 1 (tC (sTC x l0 0 (tC x l1 0)) l1 1)) l1 2)) l1 3)) l0 4 (tC (sTC (sTC (sTC (sTC x l0 0 (tC x l1 0)) l0 1 (tC (sTC x l0 0 (tC x l1 0)) l1 1)) l0 2 (tC (sTC (sTC x l0 0 (tC x l1 0)) l0 1 (tC (sTC x l0 0 (tC x l1 0)) l1 1)) l1 2)) l0 3 (tC (sTC (sTC (sTC x l0 0 (tC x l1 0)) l0 1 (tC (sTC x l0 0 (tC x l1 0)) l1 1)) l0 2 (tC (sTC (sTC x l0 0 (tC x l1 0)) l0 1 (tC (sTC x l0 0 (tC x l1 0)) l1 1)) l1 2)) l1 3)) l1 4)) l1 5)) l0 6 (tF (sTF (sTC (sTC (sTC (sTC (sTC x l0 0 (tC x l1 0)) l0 1 (tC (sTC x l0 0 (tC x l1 0)) l1 1)) l0 2 (tC (sTC (sTC x l0 0 (tC x l1 0)) l0 1 (tC (sTC x l0 0 (tC x l1 0)) l1 1)) l1 2)) l0 3 (tC (sTC (sTC (sTC x l0 0 (tC x l1 0)) l0 1 (tC (sTC x l0 0 (tC x l1 0)) l1 1)) l0 2 (tC (sTC (sTC x l0 0 (tC x l1 0)) l0 1 (tC (sTC x l0 0 (tC x l1 0)) l1 1)) l1 2)) l1 3)) l0 4 (tC (sTC (sTC (sTC (sTC x l0 0 (tC x l1 0)) l0 1 (tC (sTC x l0 0 (tC x l1 0)) l1 1)) l0 2 (tC (sTC (sTC x l0 0 (tC x l1 0)) l0 1 (tC (sTC x l0 0 (tC x l1 0)) l1 1)) l1 2)) l0 3 (tC (sTC (sTC (sTC x l0 0 (tC x l1 0)) l0 1 (tC (sTC x l0 0 (tC x l1 0)) l1 1)) l0 2 (tC (sTC (sTC x l0 0 (tC x l1 0)) l0 1 (tC (sTC x l0 0 (tC x l1 0)) l1 1)) l1 2)) l1 3)) l1 4)) l0 5 (tF (sTC (sTC (sTC (sTC (sTC x l0 0 (tC x l1 0)) l0 1 (tC (sTC x l0 0 (tC x l1 0)) l1 1)) l0 2 (tC (sTC (sTC x l0 0 (tC x l1 0)) l0 1 (tC (sTC x l0 0 (tC x l1 0)) l1 1)) l1 2)) l0 3 (tC (sTC (sTC (sTC x l0 0 (tC x l1 0)) l0 1 (tC (sTC x l0 0 (tC x l1 0)) l1 1)) l0 2 (tC (sTC (sTC x l0 0 (tC x l1 0)) l0 1 (tC (sTC x l0 0 (tC x l1 0)) l1 1)) l1 2)) l1 3)) l0 4 (tC (sTC (sTC (sTC (sTC x l0 0 (tC x l1 0)) l0 1 (tC (sTC x l0 0 (tC x l1 0)) l1 1)) l0 2 (tC (sTC (sTC x l0 0 (tC x l1 0)) l0 1 (tC (sTC x l0 0 (tC x l1 0)) l1 1)) l1 2)) l0 3 (tC (sTC (sTC (sTC x l0 0 (tC x l1 0)) l0 1 (tC (sTC x l0 0 (tC x l1 0)) l1 1)) l0 2 (tC (sTC (sTC x l0 0 (tC x l1 0)) l0 1 (tC (sTC x l0 0 (tC x l1 0)) l1 1)) l1 2)) l1 3)) l1 4)) l1 5)) l1 6)) l1 7)) l0 8 (tF (sTF (sTF (sTF (sTC (sTC (sTC (sTC (sTC x l0 0 (tC x l1 0)) l0 1 (tC (sTC x l0 0 (tC x l1 0)) l1 1)) l0 2 (tC (sTC (sTC x l0 0 (tC x l1 0)) l0 1 (tC (sTC x l0 0 (tC x l1 0)) l1 1)) l1 2)) l0 3 (tC (sTC (sTC (sTC x l0 0 (tC x l1 0)) l0 1 (tC (sTC x l0 0 (tC x l1 0)) l1 1)) l0 2 (tC (sTC (sTC x l0 0 (tC x l1 0)) l0 1 (tC (sTC x l0 0 (tC x l1 0)) l1 1)) l1 2)) l1 3)) l0 4 (tC (sTC (sTC (sTC (sTC x l0 0 (tC x l1 0)) l0 1 (tC (sTC x l0 0 (tC x l1 0)) l1 1)) l0 2 (tC (sTC (sTC x l0 0 (tC x l1 0)) l0 1 (tC (sTC x l0 0 (tC x l1 0)) l1 1)) l1 2)) l0 3 (tC (sTC (sTC (sTC x l0 0 (tC x l1 0)) l0 1 (tC (sTC x l0 0 (tC x l1 0)) l1 1)) l0 2 (tC (sTC (sTC x l0 0 (tC x l1 0)) l0 1 (tC (sTC x l0 0 (tC x l1 0)) l1 1)) l1 2)) l1 3)) l1 4)) l0 5 (tF (sTC (sTC (sTC (sTC (sTC x l0 0 (tC x l1 0)) l0 1 (tC (sTC x l0 0 (tC x l1 0)) l1 1)) l0 2 (tC (sTC (sTC x l0 0 (tC x l1 0)) l0 1 (tC (sTC x l0 0 (tC x l1 0)) l1 1)) l1 2)) l0 3 (tC (sTC (sTC (sTC x l0 0 (tC x l1 0)) l0 1 (tC (sTC x l0 0 (tC x l1 0)) l1 1)) l0 2 (tC (sTC (sTC x l0 0 (tC x l1 0)) l0 1 (tC (sTC x l0 0 (tC x l1 0)) l1 1)) l1 2)) l1 3)) l0 4 (tC (sTC (sTC (sTC (sTC x l0 0 (tC x l1 0)) l0 1 (tC (sTC x l0 0 (tC x l1 0)) l1 1)) l0 2 (tC (sTC (sTC x l0 0 (tC x l1 0)) l0 1 (tC (sTC x l0 0 (tC x l1 0)) l1 1)) l1 2)) l0 3 (tC (sTC (sTC (sTC x l0 0 (tC x l1 0)) l0 1 (tC (sTC x l0 0 (tC x l1 0)) l1 1)) l0 2 (tC (sTC (sTC x l0 0 (tC x l1 0)) l0 1 (tC (sTC x l0 0 (tC x l1 0)) l1 1)) l1 2)) l1 3)) l1 4)) l1 5)) l0 6 (tF (sTF (sTC (sTC (sTC (sTC (sTC x l0 0 (tC x l1 0)) l0 1 (tC (sTC x l0 0 (tC x l1 0)) l1 1)) l0 2 (tC (sTC (sTC x l0 0 (tC x l1 0)) l0 1 (tC (sTC x l0 0 (tC x l1 0)) l1 1)) l1 2)) l0 3 (tC (sTC (sTC (sTC x l0 0 (tC x l1 0)) l0 1 (tC (sTC x l0 0 (tC x l1 0)) l1 1)) l0 2 (tC (sTC (sTC x l0 0 (tC x l1 0)) l0 1 (tC (sTC x l0 0 (tC x l1 0)) l1 1)) l1 2)) l1 3)) l0 4 (tC (sTC (sTC (sTC (sTC x l0 0 (tC x l1 0)) l0 1 (tC (sTC x l0 0 (tC x l1 0)) l1 1)) l0 2 (tC (sTC (sTC x l0 0 (tC x l1 0)) l0 1 (tC (sTC x l0 0 (tC x l1 0)) l1 1)) l1 2)) l0 3 (tC (sTC (sTC (sTC x l0 0 (tC x l1 0)) l0 1 (tC (sTC x l0 0 (tC x l1 0)) l1 1)) l0 2 (tC (sTC (sTC x l0 0 (tC x l1 0)) l0 1 (tC (sTC x l0 0 (tC x l1 0)) l1 1)) l1 2)) l1 3)) l1 4)) l0 5 (tF (sTC (sTC (sTC (sTC (sTC x l0 0 (tC x l1 0)) l0 1 (tC (sTC x l0 0 (tC x l1 0)) l1 1)) l0 2 (tC (sTC (sTC x l0 0 (tC x l1 0)) l0 1 (tC (sTC x l0 0 (tC x l1 0)) l1 1)) l1 2)) l0 3 (tC (sTC (sTC (sTC x l0 0 (tC x l1 0)) l0 1 (tC (sTC x l0 0 (tC x l1 0)) l1 1)) l0 2 (tC (sTC (sTC x l0 0 (tC x l1 0)) l0 1 (tC (sTC x l0 0 (tC x l1 0)) l1 1)) l1 2)) l1 3)) l0 4 (tC (sTC (sTC (sTC (sTC x l0 0 (tC x l1 0)) l0 1 (tC (sTC x l0 0 (tC x l1 0)) l1 1)) l0 2 (tC (sTC (sTC x l0 0 (tC x l1 0)) l0 1 (tC (sTC x l0 0 (tC x l1 0)) l1 1)) l1 2)) l0 3 (tC (sTC (sTC (sTC x l0 0 (tC x l1 0)) l0 1 (tC (sTC x l0 0 (tC x l1 0)) l1 1)) l0 2 (tC (sTC (sTC x l0 0 (tC x l1 0)) l0 1 (tC (sTC x l0 0 (tC x l1 0)) l1 1)) l1 2)) l1 3)) l1 4)) l1 5)) l1 6)) l0 7 (tF (sTF (sTF (sTC (sTC (sTC (sTC (sTC x l0 0 (tC x l1 0)) l0 1 (tC (sTC x l0 0 (tC x l1 0)) l1 1)) l0 2 (tC (sTC (sTC x l0 0 (tC x l1 0)) l0 1 (tC (sTC x l0 0 (tC x l1 0)) l1 1)) l1 2)) l0 3 (tC (sTC (sTC (sTC x l0 0 (tC x l1 0)) l0 1 (tC (sTC x l0 0 (tC x l1 0)) l1 1)) l0 2 (tC (sTC (sTC x l0 0 (tC x l1 0)) l0 1 (tC (sTC x l0 0 (tC x l1 0)) l1 1)) l1 2)) l1 3)) l0 4 (tC (sTC (sTC (sTC (sTC x l0 0 (tC x l1 0)) l0 1 (tC (sTC x l0 0 (tC x l1 0)) l1 1)) l0 2 (tC (sTC (sTC x l0 0 (tC x l1 0)) l0 1 (tC (sTC x l0 0 (tC x l1 0)) l1 1)) l1 2)) l0 3 (tC (sTC (sTC (sTC x l0 0 (tC x l1 0)) l0 1 (tC (sTC x l0 0 (tC x l1 0)) l1 1)) l0 2 (tC (sTC (sTC x l0 0 (tC x l1 0)) l0 1 (tC (sTC x l0 0 (tC x l1 0)) l1 1)) l1 2)) l1 3)) l1 4)) l0 5 (tF (sTC (sTC (sTC (sTC (sTC x l0 0 (tC x l1 0)) l0 1 (tC (sTC x l0 0 (tC x l1 0)) l1 1)) l0 2 (tC (sTC (sTC x l0 0 (tC x l1 0)) l0 1 (tC (sTC x l0 0 (tC x l1 0)) l1 1)) l1 2)) l0 3 (tC (sTC (sTC (sTC x l0 0 (tC x l1 0)) l0 1 (tC (sTC x l0 0 (tC x l1 0)) l1 1)) l0 2 (tC (sTC (sTC x l0 0 (tC x l1 0)) l0 1 (tC (sTC x l0 0 (tC x l1 0)) l1 1)) l1 2)) l1 3)) l0 4 (tC (sTC (sTC (sTC (sTC x l0 0 (tC x l1 0)) l0 1 (tC (sTC x l0 0 (tC x l1 0)) l1 1)) l0 2 (tC (sTC (sTC x l0 0 (tC x l1 0)) l0 1 (tC (sTC x l0 0 (tC x l1 0)) l1 1)) l1 2)) l0 3 (tC (sTC (sTC (sTC x l0 0 (tC x l1 0)) l0 1 (tC (sTC x l0 0 (tC x l1 0)) l1 1)) l0 2 (tC (sTC (sTC x l0 0 (tC x l1 0)) l0 1 (tC (sTC x l0 0 (tC x l1 0)) l1 1)) l1 2)) l1 3)) l1 4)) l1 5)) l0 6 (tF (sTF (sTC (sTC (sTC (sTC (sTC x l0 0 (tC x l1 0)) l0 1 (tC (sTC x l0 0 (tC x l1 0)) l1 1)) l0 2 (tC (sTC (sTC x l0 0 (tC x l1 0)) l0 1 (tC (sTC x l0 0 (tC x l1 0)) l1 1)) l1 2)) l0 3 (tC (sTC (sTC (sTC x l0 0 (tC x l1 0)) l0 1 (tC (sTC x l0 0 (tC x l1 0)) l1 1)) l0 2 (tC (sTC (sTC x l0 0 (tC x l1 0)) l0 1 (tC (sTC x l0 0 (tC x l1 0)) l1 1)) l1 2)) l1 3)) l0 4 (tC (sTC (sTC (sTC (sTC x l0 0 (tC x l1 0)) l0 1 (tC (sTC x l0 0 (tC x l1 0)) l1 1)) l0 2 (tC (sTC (sTC x l0 0 (tC x l1 0)) l0 1 (tC (sTC x l0 0 (tC x l1 0)) l1 1)) l1 2)) l0 3 (tC (sTC (sTC (sTC x l0 0 (tC x l1 0)) l0 1 (tC (sTC x l0 0 (tC x l1 0)) l1 1)) l0 2 (tC (sTC (sTC x l0 0 (tC x l1 0)) l0 1 (tC (sTC x l0 0 (tC x l1 0)) l1 1)) l1 2)) l1 3)) l1 4)) l0 5 (tF (sTC (sTC (sTC (sTC (sTC x l0 0 (tC x l1 0)) l0 1 (tC (sTC x l0 0 (tC x l1 0)) l1 1)) l0 2 (tC (sTC (sTC x l0 0 (tC x l1 0)) l0 1 (tC (sTC x l0 0 (tC x l1 0)) l1 1)) l1 2)) l0 3 (tC (sTC (sTC (sTC x l0 0 (tC x l1 0)) l0 1 (tC (sTC x l0 0 (tC x l1 0)) l1 1)) l0 2 (tC (sTC (sTC x l0 0 (tC x l1 0)) l0 1 (tC (sTC x l0 0 (tC x l1 0)) l1 1)) l1 2)) l1 3)) l0 4 (tC (sTC (sTC (sTC (sTC x l0 0 (tC x l1 0)) l0 1 (tC (sTC x l0 0 (tC x l1 0)) l1 1)) l0 2 (tC (sTC (sTC x l0 0 (tC x l1 0)) l0 1 (tC (sTC x l0 0 (tC x l1 0)) l1 1)) l1 2)) l0 3 (tC (sTC (sTC (sTC x l0 0 (tC x l1 0)) l0 1 (tC (sTC x l0 0 (tC x l1 0)) l1 1)) l0 2 (tC (sTC (sTC x l0 0 (tC x l1 0)) l0 1 (tC (sTC x l0 0 (tC x l1 0)) l1 1)) l1 2)) l1 3)) l1 4)) l1 5)) l1 6)) l1 7)) l1 8)) l1 9)) l1 10)) l0 11 (tF (sTF (sTF (sTF (sTF (sTF (sTF (sTC (sTC (sTC (sTC (sTC x l0 0 (tC x l1 0)) l0 1 (tC (sTC x l0 0 (tC x l1 0)) l1 1)) l0 2 (tC (sTC (sTC x l0 0 (tC x l1 0)) l0 1 (tC (sTC x l0 0 (tC x l1 0)) l1 1)) l1 2)) l0 3 (tC (sTC (sTC (sTC x l0 0 (tC x l1 0)) l0 1 (tC (sTC x l0 0 (tC x l1 0)) l1 1)) l0 2 (tC (sTC (sTC x l0 0 (tC x l1 0)) l0 1 (tC (sTC x l0 0 (tC x l1 0)) l1 1)) l1 2)) l1 3)) l0 4 (tC (sTC (sTC (sTC (sTC x l0 0 (tC x l1 0)) l0 1 (tC (sTC x l0 0 (tC x l1 0)) l1 1)) l0 2 (tC (sTC (sTC x l0 0 (tC x l1 0)) l0 1 (tC (sTC x l0 0 (tC x l1 0)) l1 1)) l1 2)) l0 3 (tC (sTC (sTC (sTC x l0 0 (tC x l1 0)) l0 1 (tC (sTC x l0 0 (tC x l1 0)) l1 1)) l0 2 (tC (sTC (sTC x l0 0 (tC x l1 0)) l0 1 (tC (sTC x l0 0 (tC x l1 0)) l1 1)) l1 2)) l1 3)) l1 4)) l0 5 (tF (sTC (sTC (sTC (sTC (sTC x l0 0 (tC x l1 0)) l0 1 (tC (sTC x l0 0 (tC x l1 0)) l1 1)) l0 2 (tC (sTC (sTC x l0 0 (tC x l1 0)) l0 1 (tC (sTC x l0 0 (tC x l1 0)) l1 1)) l1 2)) l0 3 (tC (sTC (sTC (sTC x l0 0 (tC x l1 0)) l0 1 (tC (sTC x l0 0 (tC x l1 0)) l1 1)) l0 2 (tC (sTC (sTC x l0 0 (tC x l1 0)) l0 1 (tC (sTC x l0 0 (tC x l1 0)) l1 1)) l1 2)) l1 3)) l0 4 (tC (sTC (sTC (sTC (sTC x l0 0 (tC x l1 0)) l0 1 (tC (sTC x l0 0 (tC x l1 0)) l1 1)) l0 2 (tC (sTC (sTC x l0 0 (tC x l1 0)) l0 1 (tC (sTC x l0 0 (tC x l1 0)) l1 1)) l1 2)) l0 3 (tC (sTC (sTC (sTC x l0 0 (tC x l1 0)) l0 1 (tC (sTC x l0 0 (tC x l1 0)) l1 1)) l0 2 (tC (sTC (sTC x l0 0 (tC x l1 0)) l0 1 (tC (sTC x l0 0 (tC x l1 0)) l1 1)) l1 2)) l1 3)) l1 4)) l1 5)) l0 6 (tF (sTF (sTC (sTC (sTC (sTC (sTC x l0 0 (tC x l1 0)) l0 1 (tC (sTC x l0 0 (tC x l1 0)) l1 1)) l0 2 (tC (sTC (sTC x l0 0 (tC x l1 0)) l0 1 (tC (sTC x l0 0 (tC x l1 0)) l1 1)) l1 2)) l0 3 (tC (sTC (sTC (sTC x l0 0 (tC x l1 0)) l0 1 (tC (sTC x l0 0 (tC x l1 0)) l1 1)) l0 2 (tC (sTC (sTC x l0 0 (tC x l1 0)) l0 1 (tC (sTC x l0 0 (tC x l1 0)) l1 1)) l1 2)) l1 3)) l0 4 (tC (sTC (sTC (sTC (sTC x l0 0 (tC x l1 0)) l0 1 (tC (sTC x l0 0 (tC x l1 0)) l1 1)) l0 2 (tC (sTC (sTC x l0 0 (tC x l1 0)) l0 1 (tC (sTC x l0 0 (tC x l1 0)) l1 1)) l1 2)) l0 3 (tC (sTC (sTC (sTC x l0 0 (tC x l1 0)) l0 1 (tC (sTC x l0 0 (tC x l1 0)) l1 1)) l0 2 (tC (sTC (sTC x l0 0 (tC x l1 0)) l0 1 (tC (sTC x l0 0 (tC x l1 0)) l1 1)) l1 2)) l1 3)) l1 4)) l0 5 (tF (sTC (sTC (sTC (sTC (sTC x l0 0 (tC x l1 0)) l0 1 (tC (sTC x l0 0 (tC x l1 0)) l1 1)) l0 2 (tC (sTC (sTC x l0 0 (tC x l1 0)) l0 1 (tC (sTC x l0 0 (tC x l1 0)) l1 1)) l1 2)) l0 3 (tC (sTC (sTC (sTC x l0 0 (tC x l1 0)) l0 1 (tC (sTC x l0 0 (tC x l1 0)) l1 1)) l0 2 (tC (sTC (sTC x l0 0 (tC x l1 0)) l0 1 (tC (sTC x l0 0 (tC x l1 0)) l1 1)) l1 2)) l1 3)) l0 4 (tC (sTC (sTC (sTC (sTC x l0 0 (tC x l1 0)) l0 1 (tC (sTC x l0 0 (tC x l1 0)) l1 1)) l0 2 (tC (sTC (sTC x l0 0 (tC x l1 0)) l0 1 (tC (sTC x l0 0 (tC x l1 0)) l1 1)) l1 2)) l0 3 (tC (sTC (sTC (sTC x l0 0 (tC x l1 0)) l0 1 (tC (sTC x l0 0 (tC x l1 0)) l1 1)) l0 2 (tC (sTC (sTC x l0 0 (tC x l1 0)) l0 1 (tC (sTC x l0 0 (tC x l1 0)) l1 1)) l1 2)) l1 3)) l1 4)) l1 5)) l1 6)) l0 7 (tF (sTF (sTF (sTC (sTC (sTC (sTC (sTC x l0 0 (tC x l1 0)) l0 1 (tC (sTC x l0 0 (tC x l1 0)) l1 1)) l0 2 (tC (sTC (sTC x l0 0 (tC x l1 0)) l0 1 (tC (sTC x l0 0 (tC x l1 0)) l1 1)) l1 2)) l0 3 (tC (sTC (sTC (sTC x l0 0 (tC x l1 0)) l0 1 (tC (sTC x l0 0 (tC x l1 0)) l1 1)) l0 2 (tC (sTC (sTC x l0 0 (tC x l1 0)) l0 1 (tC (sTC x l0 0 (tC x l1 0)) l1 1)) l1 2)) l1 3)) l0 4 (tC (sTC (sTC (sTC (sTC x l0 0 (tC x l1 0)) l0 1 (tC (sTC x l0 0 (tC x l1 0)) l1 1)) l0 2 (tC (sTC (sTC x l0 0 (tC x l1 0)) l0 1 (tC (sTC x l0 0 (tC x l1 0)) l1 1)) l1 2)) l0 3 (tC (sTC (sTC (sTC x l0 0 (tC x l1 0)) l0 1 (tC (sTC x l0 0 (tC x l1 0)) l1 1)) l0 2 (tC (sTC (sTC x l0 0 (tC x l1 0)) l0 1 (tC (sTC x l0 0 (tC x l1 0)) l1 1)) l1 2)) l1 3)) l1 4)) l0 5 (tF (sTC (sTC (sTC (sTC (sTC x l0 0 (tC x l1 0)) l0 1 (tC (sTC x l0 0 (tC x l1 0)) l1 1)) l0 2 (tC (sTC (sTC x l0 0 (tC x l1 0)) l0 1 (tC (sTC x l0 0 (tC x l1 0)) l1 1)) l1 2)) l0 3 (tC (sTC (sTC (sTC x l0 0 (tC x l1 0)) l0 1 (tC (sTC x l0 0 (tC x l1 0)) l1 1)) l0 2 (tC (sTC (sTC x l0 0 (tC x l1 0)) l0 1 (tC (sTC x l0 0 (tC x l1 0)) l1 1)) l1 2)) l1 3)) l0 4 (tC (sTC (sTC (sTC (sTC x l0 0 (tC x l1 0)) l0 1 (tC (sTC x l0 0 (tC x l1 0)) l1 1)) l0 2 (tC (sTC (sTC x l0 0 (tC x l1 0)) l0 1 (tC (sTC x l0 0 (tC x l1 0)) l1 1)) l1 2)) l0 3 (tC (sTC (sTC (sTC x l0 0 (tC x l1 0)) l0 1 (tC (sTC x l0 0 (tC x l1 0)) l1 1)) l0 2 (tC (sTC (sTC x l0 0 (tC x l1 0)) l0 1 (tC (sTC x l0 0 (tC x l1 0)) l1 1)) l1 2)) l1 3)) l1 4)) l1 5)) l0 6 (tF (sTF (sTC (sTC (sTC (sTC (sTC x l0 0 (tC x l1 0)) l0 1 (tC (sTC x l0 0 (tC x l1 0)) l1 1)) l0 2 (tC (sTC (sTC x l0 0 (tC x l1 0)) l0 1 (tC (sTC x l0 0 (tC x l1 0)) l1 1)) l1 2)) l0 3 (tC (sTC (sTC (sTC x l0 0 (tC x l1 0)) l0 1 (tC (sTC x l0 0 (tC x l1 0)) l1 1)) l0 2 (tC (sTC (sTC x l0 0 (tC x l1 0)) l0 1 (tC (sTC x l0 0 (tC x l1 0)) l1 1)) l1 2)) l1 3)) l0 4 (tC (sTC (sTC (sTC (sTC x l0 0 (tC x l1 0)) l0 1 (tC (sTC x l0 0 (tC x l1 0)) l1 1)) l0 2 (tC (sTC (sTC x l0 0 (tC x l1 0)) l0 1 (tC (sTC x l0 0 (tC x l1 0)) l1 1)) l1 2)) l0 3 (tC (sTC (sTC (sTC x l0 0 (tC x l1 0)) l0 1 (tC (sTC x l0 0 (tC x l1 0)) l1 1)) l0 2 (tC (sTC (sTC x l0 0 (tC x l1 0)) l0 1 (tC (sTC x l0 0 (tC x l1 0)) l1 1)) l1 2)) l1 3)) l1 4)) l0 5 (tF (sTC (sTC (sTC (sTC (sTC x l0 0 (tC x l1 0)) l0 1 (tC (sTC x l0 0 (tC x l1 0)) l1 1)) l0 2 (tC (sTC (sTC x l0 0 (tC x l1 0)) l0 1 (tC (sTC x l0 0 (tC x l1 0)) l1 1)) l1 2)) l0 3 (tC (sTC (sTC (sTC x l0 0 (tC x l1 0)) l0 1 (tC (sTC x l0 0 (tC x l1 0)) l1 1)) l0 2 (tC (sTC (sTC x l0 0 (tC x l1 0)) l0 1 (tC (sTC x l0 0 (tC x l1 0)) l1 1)) l1 2)) l1 3)) l0 4 (tC (sTC (sTC (sTC (sTC x l0 0 (tC x l1 0)) l0 1 (tC (sTC x l0 0 (tC x l1 0)) l1 1)) l0 2 (tC (sTC (sTC x l0 0 (tC x l1 0)) l0 1 (tC (sTC x l0 0 (tC x l1 0)) l1 1)) l1 2)) l0 3 (tC (sTC (sTC (sTC x l0 0 (tC x l1 0)) l0 1 (tC (sTC x l0 0 (tC x l1 0)) l1 1)) l0 2 (tC (sTC (sTC x l0 0 (tC x l1 0)) l0 1 (tC (sTC x l0 0 (tC x l1 0)) l1 1)) l1 2)) l1 3)) l1 4)) l1 5)) l1 6)) l1 7)) l0 8 (tF (sTF (sTF (sTF (sTC (sTC (sTC (sTC (sTC x l0 0 (tC x l1 0)) l0 1 (tC (sTC x l0 0 (tC x l1 0)) l1 1)) l0 2 (tC (sTC (sTC x l0 0 (tC x l1 0)) l0 1 (tC (sTC x l0 0 (tC x l1 0)) l1 1)) l1 2)) l0 3 (tC (sTC (sTC (sTC x l0 0 (tC x l1 0)) l0 1 (tC (sTC x l0 0 (tC x l1 0)) l1 1)) l0 2 (tC (sTC (sTC x l0 0 (tC x l1 0)) l0 1 (tC (sTC x l0 0 (tC x l1 0)) l1 1)) l1 2)) l1 3)) l0 4 (tC (sTC (sTC (sTC (sTC x l0 0 (tC x l1 0)) l0 1 (tC (sTC x l0 0 (tC x l1 0)) l1 1)) l0 2 (tC (sTC (sTC x l0 0 (tC x l1 0)) l0 1 (tC (sTC x l0 0 (tC x l1 0)) l1 1)) l1 2)) l0 3 (tC (sTC (sTC (sTC x l0 0 (tC x l1 0)) l0 1 (tC (sTC x l0 0 (tC x l1 0)) l1 1)) l0 2 (tC (sTC (sTC x l0 0 (tC x l1 0)) l0 1 (tC (sTC x l0 0 (tC x l1 0)) l1 1)) l1 2)) l1 3)) l1 4)) l0 5 (tF (sTC (sTC (sTC (sTC (sTC x l0 0 (tC x l1 0)) l0 1 (tC (sTC x l0 0 (tC x l1 0)) l1 1)) l0 2 (tC (sTC (sTC x l0 0 (tC x l1 0)) l0 1 (tC (sTC x l0 0 (tC x l1 0)) l1 1)) l1 2)) l0 3 (tC (sTC (sTC (sTC x l0 0 (tC x l1 0)) l0 1 (tC (sTC x l0 0 (tC x l1 0)) l1 1)) l0 2 (tC (sTC (sTC x l0 0 (tC x l1 0)) l0 1 (tC (sTC x l0 0 (tC x l1 0)) l1 1)) l1 2)) l1 3)) l0 4 (tC (sTC (sTC (sTC (sTC x l0 0 (tC x l1 0)) l0 1 (tC (sTC x l0 0 (tC x l1 0)) l1 1)) l0 2 (tC (sTC (sTC x l0 0 (tC x l1 0)) l0 1 (tC (sTC x l0 0 (tC x l1 0)) l1 1)) l1 2)) l0 3 (tC (sTC (sTC (sTC x l0 0 (tC x l1 0)) l0 1 (tC (sTC x l0 0 (tC x l1 0)) l1 1)) l0 2 (tC (sTC (sTC x l0 0 (tC x l1 0)) l0 1 (tC (sTC x l0 0 (tC x l1 0)) l1 1)) l1 2)) l1 3)) l1 4)) l1 5)) l0 6 (tF (sTF (sTC (sTC (sTC (sTC (sTC x l0 0 (tC x l1 0)) l0 1 (tC (sTC x l0 0 (tC x l1 0)) l1 1)) l0 2 (tC (sTC (sTC x l0 0 (tC x l1 0)) l0 1 (tC (sTC x l0 0 (tC x l1 0)) l1 1)) l1 2)) l0 3 (tC (sTC (sTC (sTC x l0 0 (tC x l1 0)) l0 1 (tC (sTC x l0 0 (tC x l1 0)) l1 1)) l0 2 (tC (sTC (sTC x l0 0 (tC x l1 0)) l0 1 (tC (sTC x l0 0 (tC x l1 0)) l1 1)) l1 2)) l1 3)) l0 4 (tC (sTC (sTC (sTC (sTC x l0 0 (tC x l1 0)) l0 1 (tC (sTC x l0 0 (tC x l1 0)) l1 1)) l0 2 (tC (sTC (sTC x l0 0 (tC x l1 0)) l0 1 (tC (sTC x l0 0 (tC x l1 0)) l1 1)) l1 2)) l0 3 (tC (sTC (sTC (sTC x l0 0 (tC x l1 0)) l0 1 (tC (sTC x l0 0 (tC x l1 0)) l1 1)) l0 2 (tC (sTC (sTC x l0 0 (tC x l1 0)) l0 1 (tC (sTC x l0 0 (tC x l1 0)) l1 1)) l1 2)) l1 3)) l1 4)) l0 5 (tF (sTC (sTC (sTC (sTC (sTC x l0 0 (tC x l1 0)) l0 1 (tC (sTC x l0 0 (tC x l1 0)) l1 1)) l0 2 (tC (sTC (sTC x l0 0 (tC x l1 0)) l0 1 (tC (sTC x l0 0 (tC x l1 0)) l1 1)) l1 2)) l0 3 (tC (sTC (sTC (sTC x l0 0 (tC x l1 0)) l0 1 (tC (sTC x l0 0 (tC x l1 0)) l1 1)) l0 2 (tC (sTC (sTC x l0 0 (tC x l1 0)) l0 1 (tC (sTC x l0 0 (tC x l1 0)) l1 1)) l1 2)) l1 3)) l0 4 (tC (sTC (sTC (sTC (sTC x l0 0 (tC x l1 0)) l0 1 (tC (sTC x l0 0 (tC x l1 0)) l1 1)) l0 2 (tC (sTC (sTC x l0 0 (tC x l1 0)) l0 1 (tC (sTC x l0 0 (tC x l1 0)) l1 1)) l1 2)) l0 3 (tC (sTC (sTC (sTC x l0 0 (tC x l1 0)) l0 1 (tC (sTC x l0 0 (tC x l1 0)) l1 1)) l0 2 (tC (sTC (sTC x l0 0 (tC x l1 0)) l0 1 (tC (sTC x l0 0 (tC x l1 0)) l1 1)) l1 2)) l1 3)) l1 4)) l1 5)) l1 6)) l0 7 (tF (sTF (sTF (sTC (sTC (sTC (sTC (sTC x l0 0 (tC x l1 0)) l0 1 (tC (sTC x l0 0 (tC x l1 0)) l1 1)) l0 2 (tC (sTC (sTC x l0 0 (tC x l1 0)) l0 1 (tC (sTC x l0 0 (tC x l1 0)) l1 1)) l1 2)) l0 3 (tC (sTC (sTC (sTC x l0 0 (tC x l1 0)) l0 1 (tC (sTC x l0 0 (tC x l1 0)) l1 1)) l0 2 (tC (sTC (sTC x l0 0 (tC x l1 0)) l0 1 (tC (sTC x l0 0 (tC x l1 0)) l1 1)) l1 2)) l1 3)) l0 4 (tC (sTC (sTC (sTC (sTC x l0 0 (tC x l1 0)) l0 1 (tC (sTC x l0 0 (tC x l1 0)) l1 1)) l0 2 (tC (sTC (sTC x l0 0 (tC x l1 0)) l0 1 (tC (sTC x l0 0 (tC x l1 0)) l1 1)) l1 2)) l0 3 (tC (sTC (sTC (sTC x l0 0 (tC x l1 0)) l0 1 (tC (sTC x l0 0 (tC x l1 0)) l1 1)) l0 2 (tC (sTC (sTC x l0 0 (tC x l1 0)) l0 1 (tC (sTC x l0 0 (tC x l1 0)) l1 1)) l1 2)) l1 3)) l1 4)) l0 5 (tF (sTC (sTC (sTC (sTC (sTC x l0 0 (tC x l1 0)) l0 1 (tC (sTC x l0 0 (tC x l1 0)) l1 1)) l0 2 (tC (sTC (sTC x l0 0 (tC x l1 0)) l0 1 (tC (sTC x l0 0 (tC x l1 0)) l1 1)) l1 2)) l0 3 (tC (sTC (sTC (sTC x l0 0 (tC x l1 0)) l0 1 (tC (sTC x l0 0 (tC x l1 0)) l1 1)) l0 2 (tC (sTC (sTC x l0 0 (tC x l1 0)) l0 1 (tC (sTC x l0 0 (tC x l1 0)) l1 1)) l1 2)) l1 3)) l0 4 (tC (sTC (sTC (sTC (sTC x l0 0 (tC x l1 0)) l0 1 (tC (sTC x l0 0 (tC x l1 0)) l1 1)) l0 2 (tC (sTC (sTC x l0 0 (tC x l1 0)) l0 1 (tC (sTC x l0 0 (tC x l1 0)) l1 1)) l1 2)) l0 3 (tC (sTC (sTC (sTC x l0 0 (tC x l1 0)) l0 1 (tC (sTC x l0 0 (tC x l1 0)) l1 1)) l0 2 (tC (sTC (sTC x l0 0 (tC x l1 0)) l0 1 (tC (sTC x l0 0 (tC x l1 0)) l1 1)) l1 2)) l1 3)) l1 4)) l1 5)) l0 6 (tF (sTF (sTC (sTC (sTC (sTC (sTC x l0 0 (tC x l1 0)) l0 1 (tC (sTC x l0 0 (tC x l1 0)) l1 1)) l0 2 (tC (sTC (sTC x l0 0 (tC x l1 0)) l0 1 (tC (sTC x l0 0 (tC x l1 0)) l1 1)) l1 2)) l0 3 (tC (sTC (sTC (sTC x l0 0 (tC x l1 0)) l0 1 (tC (sTC x l0 0 (tC x l1 0)) l1 1)) l0 2 (tC (sTC (sTC x l0 0 (tC x l1 0)) l0 1 (tC (sTC x l0 0 (tC x l1 0)) l1 1)) l1 2)) l1 3)) l0 4 (tC (sTC (sTC (sTC (sTC x l0 0 (tC x l1 0)) l0 1 (tC (sTC x l0 0 (tC x l1 0)) l1 1)) l0 2 (tC (sTC (sTC x l0 0 (tC x l1 0)) l0 1 (tC (sTC x l0 0 (tC x l1 0)) l1 1)) l1 2)) l0 3 (tC (sTC (sTC (sTC x l0 0 (tC x l1 0)) l0 1 (tC (sTC x l0 0 (tC x l1 0)) l1 1)) l0 2 (tC (sTC (sTC x l0 0 (tC x l1 0)) l0 1 (tC (sTC x l0 0 (tC x l1 0)) l1 1)) l1 2)) l1 3)) l1 4)) l0 5 (tF (sTC (sTC (sTC (sTC (sTC x l0 0 (tC x l1 0)) l0 1 (tC (sTC x l0 0 (tC x l1 0)) l1 1)) l0 2 (tC (sTC (sTC x l0 0 (tC x l1 0)) l0 1 (tC (sTC x l0 0 (tC x l1 0)) l1 1)) l1 2)) l0 3 (tC (sTC (sTC (sTC x l0 0 (tC x l1 0)) l0 1 (tC (sTC x l0 0 (tC x l1 0)) l1 1)) l0 2 (tC (sTC (sTC x l0 0 (tC x l1 0)) l0 1 (tC (sTC x l0 0 (tC x l1 0)) l1 1)) l1 2)) l1 3)) l0 4 (tC (sTC (sTC (sTC (sTC x l0 0 (tC x l1 0)) l0 1 (tC (sTC x l0 0 (tC x l1 0)) l1 1)) l0 2 (tC (sTC (sTC x l0 0 (tC x l1 0)) l0 1 (tC (sTC x l0 0 (tC x l1 0)) l1 1)) l1 2)) l0 3 (tC (sTC (sTC (sTC x l0 0 (tC x l1 0)) l0 1 (tC (sTC x l0 0 (tC x l1 0)) l1 1)) l0 2 (tC (sTC (sTC x l0 0 (tC x l1 0)) l0 1 (tC (sTC x l0 0 (tC x l1 0)) l1 1)) l1 2)) l1 3)) l1 4)) l1 5)) l1 6)) l1 7)) l1 8)) l0 9 (tF (sTF (sTF (sTF (sTF (sTC (sTC (sTC (sTC (sTC x l0 0 (tC x l1 0)) l0 1 (tC (sTC x l0 0 (tC x l1 0)) l1 1)) l0 2 (tC (sTC (sTC x l0 0 (tC x l1 0)) l0 1 (tC (sTC x l0 0 (tC x l1 0)) l1 1)) l1 2)) l0 3 (tC (sTC (sTC (sTC x l0 0 (tC x l1 0)) l0 1 (tC (sTC x l0 0 (tC x l1 0)) l1 1)) l0 2 (tC (sTC (sTC x l0 0 (tC x l1 0)) l0 1 (tC (sTC x l0 0 (tC x l1 0)) l1 1)) l1 2)) l1 3)) l0 4 (tC (sTC (sTC (sTC (sTC x l0 0 (tC x l1 0)) l0 1 (tC (sTC x l0 0 (tC x l1 0)) l1 1)) l0 2 (tC (sTC (sTC x l0 0 (tC x l1 0)) l0 1 (tC (sTC x l0 0 (tC x l1 0)) l1 1)) l1 2)) l0 3 (tC (sTC (sTC (sTC x l0 0 (tC x l1 0)) l0 1 (tC (sTC x l0 0 (tC x l1 0)) l1 1)) l0 2 (tC (sTC (sTC x l0 0 (tC x l1 0)) l0 1 (tC (sTC x l0 0 (tC x l1 0)) l1 1)) l1 2)) l1 3)) l1 4)) l0 5 (tF (sTC (sTC (sTC (sTC (sTC x l0 0 (tC x l1 0)) l0 1 (tC (sTC x l0 0 (tC x l1 0)) l1 1)) l0 2 (tC (sTC (sTC x l0 0 (tC x l1 0)) l0 1 (tC (sTC x l0 0 (tC x l1 0)) l1 1)) l1 2)) l0 3 (tC (sTC (sTC (sTC x l0 0 (tC x l1 0)) l0 1 (tC (sTC x l0 0 (tC x l1 0)) l1 1)) l0 2 (tC (sTC (sTC x l0 0 (tC x l1 0)) l0 1 (tC (sTC x l0 0 (tC x l1 0)) l1 1)) l1 2)) l1 3)) l0 4 (tC (sTC (sTC (sTC (sTC x l0 0 (tC x l1 0)) l0 1 (tC (sTC x l0 0 (tC x l1 0)) l1 1)) l0 2 (tC (sTC (sTC x l0 0 (tC x l1 0)) l0 1 (tC (sTC x l0 0 (tC x l1 0)) l1 1)) l1 2)) l0 3 (tC (sTC (sTC (sTC x l0 0 (tC x l1 0)) l0 1 (tC (sTC x l0 0 (tC x l1 0)) l1 1)) l0 2 (tC (sTC (sTC x l0 0 (tC x l1 0)) l0 1 (tC (sTC x l0 0 (tC x l1 0)) l1 1)) l1 2)) l1 3)) l1 4)) l1 5)) l0 6 (tF (sTF (sTC (sTC (sTC (sTC (sTC x l0 0 (tC x l1 0)) l0 1 (tC (sTC x l0 0 (tC x l1 0)) l1 1)) l0 2 (tC (sTC (sTC x l0 0 (tC x l1 0)) l0 1 (tC (sTC x l0 0 (tC x l1 0)) l1 1)) l1 2)) l0 3 (tC (sTC (sTC (sTC x l0 0 (tC x l1 0)) l0 1 (tC (sTC x l0 0 (tC x l1 0)) l1 1)) l0 2 (tC (sTC (sTC x l0 0 (tC x l1 0)) l0 1 (tC (sTC x l0 0 (tC x l1 0)) l1 1)) l1 2)) l1 3)) l0 4 (tC (sTC (sTC (sTC (sTC x l0 0 (tC x l1 0)) l0 1 (tC (sTC x l0 0 (tC x l1 0)) l1 1)) l0 2 (tC (sTC (sTC x l0 0 (tC x l1 0)) l0 1 (tC (sTC x l0 0 (tC x l1 0)) l1 1)) l1 2)) l0 3 (tC (sTC (sTC (sTC x l0 0 (tC x l1 0)) l0 1 (tC (sTC x l0 0 (tC x l1 0)) l1 1)) l0 2 (tC (sTC (sTC x l0 0 (tC x l1 0)) l0 1 (tC (sTC x l0 0 (tC x l1 0)) l1 1)) l1 2)) l1 3)) l1 4)) l0 5 (tF (sTC (sTC (sTC (sTC (sTC x l0 0 (tC x l1 0)) l0 1 (tC (sTC x l0 0 (tC x l1 0)) l1 1)) l0 2 (tC (sTC (sTC x l0 0 (tC x l1 0)) l0 1 (tC (sTC x l0 0 (tC x l1 0)) l1 1)) l1 2)) l0 3 (tC (sTC (sTC (sTC x l0 0 (tC x l1 0)) l0 1 (tC (sTC x l0 0 (tC x l1 0)) l1 1)) l0 2 (tC (sTC (sTC x l0 0 (tC x l1 0)) l0 1 (tC (sTC x l0 0 (tC x l1 0)) l1 1)) l1 2)) l1 3)) l0 4 (tC (sTC (sTC (sTC (sTC x l0 0 (tC x l1 0)) l0 1 (tC (sTC x l0 0 (tC x l1 0)) l1 1)) l0 2 (tC (sTC (sTC x l0 0 (tC x l1 0)) l0 1 (tC (sTC x l0 0 (tC x l1 0)) l1 1)) l1 2)) l0 3 (tC (sTC (sTC (sTC x l0 0 (tC x l1 0)) l0 1 (tC (sTC x l0 0 (tC x l1 0)) l1 1)) l0 2 (tC (sTC (sTC x l0 0 (tC x l1 0)) l0 1 (tC (sTC x l0 0 (tC x l1 0)) l1 1)) l1 2)) l1 3)) l1 4)) l1 5)) l1 6)) l0 7 (tF (sTF (sTF (sTC (sTC (sTC (sTC (sTC x l0 0 (tC x l1 0)) l0 1 (tC (sTC x l0 0 (tC x l1 0)) l1 1)) l0 2 (tC (sTC (sTC x l0 0 (tC x l1 0)) l0 1 (tC (sTC x l0 0 (tC x l1 0)) l1 1)) l1 2)) l0 3 (tC (sTC (sTC (sTC x l0 0 (tC x l1 0)) l0 1 (tC (sTC x l0 0 (tC x l1 0)) l1 1)) l0 2 (tC (sTC (sTC x l0 0 (tC x l1 0)) l0 1 (tC (sTC x l0 0 (tC x l1 0)) l1 1)) l1 2)) l1 3)) l0 4 (tC (sTC (sTC (sTC (sTC x l0 0 (tC x l1 0)) l0 1 (tC (sTC x l0 0 (tC x l1 0)) l1 1)) l0 2 (tC (sTC (sTC x l0 0 (tC x l1 0)) l0 1 (tC (sTC x l0 0 (tC x l1 0)) l1 1)) l1 2)) l0 3 (tC (sTC (sTC (sTC x l0 0 (tC x l1 0)) l0 1 (tC (sTC x l0 0 (tC x l1 0)) l1 1)) l0 2 (tC (sTC (sTC x l0 0 (tC x l1 0)) l0 1 (tC (sTC x l0 0 (tC x l1 0)) l1 1)) l1 2)) l1 3)) l1 4)) l0 5 (tF (sTC (sTC (sTC (sTC (sTC x l0 0 (tC x l1 0)) l0 1 (tC (sTC x l0 0 (tC x l1 0)) l1 1)) l0 2 (tC (sTC (sTC x l0 0 (tC x l1 0)) l0 1 (tC (sTC x l0 0 (tC x l1 0)) l1 1)) l1 2)) l0 3 (tC (sTC (sTC (sTC x l0 0 (tC x l1 0)) l0 1 (tC (sTC x l0 0 (tC x l1 0)) l1 1)) l0 2 (tC (sTC (sTC x l0 0 (tC x l1 0)) l0 1 (tC (sTC x l0 0 (tC x l1 0)) l1 1)) l1 2)) l1 3)) l0 4 (tC (sTC (sTC (sTC (sTC x l0 0 (tC x l1 0)) l0 1 (tC (sTC x l0 0 (tC x l1 0)) l1 1)) l0 2 (tC (sTC (sTC x l0 0 (tC x l1 0)) l0 1 (tC (sTC x l0 0 (tC x l1 0)) l1 1)) l1 2)) l0 3 (tC (sTC (sTC (sTC x l0 0 (tC x l1 0)) l0 1 (tC (sTC x l0 0 (tC x l1 0)) l1 1)) l0 2 (tC (sTC (sTC x l0 0 (tC x l1 0)) l0 1 (tC (sTC x l0 0 (tC x l1 0)) l1 1)) l1 2)) l1 3)) l1 4)) l1 5)) l0 6 (tF (sTF (sTC (sTC (sTC (sTC (sTC x l0 0 (tC x l1 0)) l0 1 (tC (sTC x l0 0 (tC x l1 0)) l1 1)) l0 2 (tC (sTC (sTC x l0 0 (tC x l1 0)) l0 1 (tC (sTC x l0 0 (tC x l1 0)) l1 1)) l1 2)) l0 3 (tC (sTC (sTC (sTC x l0 0 (tC x l1 0)) l0 1 (tC (sTC x l0 0 (tC x l1 0)) l1 1)) l0 2 (tC (sTC (sTC x l0 0 (tC x l1 0)) l0 1 (tC (sTC x l0 0 (tC x l1 0)) l1 1)) l1 2)) l1 3)) l0 4 (tC (sTC (sTC (sTC (sTC x l0 0 (tC x l1 0)) l0 1 (tC (sTC x l0 0 (tC x l1 0)) l1 1)) l0 2 (tC (sTC (sTC x l0 0 (tC x l1 0)) l0 1 (tC (sTC x l0 0 (tC x l1 0)) l1 1)) l1 2)) l0 3 (tC (sTC (sTC (sTC x l0 0 (tC x l1 0)) l0 1 (tC (sTC x l0 0 (tC x l1 0)) l1 1)) l0 2 (tC (sTC (sTC x l0 0 (tC x l1 0)) l0 1 (tC (sTC x l0 0 (tC x l1 0)) l1 1)) l1 2)) l1 3)) l1 4)) l0 5 (tF (sTC (sTC (sTC (sTC (sTC x l0 0 (tC x l1 0)) l0 1 (tC (sTC x l0 0 (tC x l1 0)) l1 1)) l0 2 (tC (sTC (sTC x l0 0 (tC x l1 0)) l0 1 (tC (sTC x l0 0 (tC x l1 0)) l1 1)) l1 2)) l0 3 (tC (sTC (sTC (sTC x l0 0 (tC x l1 0)) l0 1 (tC (sTC x l0 0 (tC x l1 0)) l1 1)) l0 2 (tC (sTC (sTC x l0 0 (tC x l1 0)) l0 1 (tC (sTC x l0 0 (tC x l1 0)) l1 1)) l1 2)) l1 3)) l0 4 (tC (sTC (sTC (sTC (sTC x l0 0 (tC x l1 0)) l0 1 (tC (sTC x l0 0 (tC x l1 0)) l1 1)) l0 2 (tC (sTC (sTC x l0 0 (tC x l1 0)) l0 1 (tC (sTC x l0 0 (tC x l1 0)) l1 1)) l1 2)) l0 3 (tC (sTC (sTC (sTC x l0 0 (tC x l1 0)) l0 1 (tC (sTC x l0 0 (tC x l1 0)) l1 1)) l0 2 (tC (sTC (sTC x l0 0 (tC x l1 0)) l0 1 (tC (sTC x l0 0 (tC x l1 0)) l1 1)) l1 2)) l1 3)) l1 4)) l1 5)) l1 6)) l1 7)) l0 8 (tF (sTF (sTF (sTF (sTC (sTC (sTC (sTC (sTC x l0 0 (tC x l1 0)) l0 1 (tC (sTC x l0 0 (tC x l1 0)) l1 1)) l0 2 (tC (sTC (sTC x l0 0 (tC x l1 0)) l0 1 (tC (sTC x l0 0 (tC x l1 0)) l1 1)) l1 2)) l0 3 (tC (sTC (sTC (sTC x l0 0 (tC x l1 0)) l0 1 (tC (sTC x l0 0 (tC x l1 0)) l1 1)) l0 2 (tC (sTC (sTC x l0 0 (tC x l1 0)) l0 1 (tC (sTC x l0 0 (tC x l1 0)) l1 1)) l1 2)) l1 3)) l0 4 (tC (sTC (sTC (sTC (sTC x l0 0 (tC x l1 0)) l0 1 (tC (sTC x l0 0 (tC x l1 0)) l1 1)) l0 2 (tC (sTC (sTC x l0 0 (tC x l1 0)) l0 1 (tC (sTC x l0 0 (tC x l1 0)) l1 1)) l1 2)) l0 3 (tC (sTC (sTC (sTC x l0 0 (tC x l1 0)) l0 1 (tC (sTC x l0 0 (tC x l1 0)) l1 1)) l0 2 (tC (sTC (sTC x l0 0 (tC x l1 0)) l0 1 (tC (sTC x l0 0 (tC x l1 0)) l1 1)) l1 2)) l1 3)) l1 4)) l0 5 (tF (sTC (sTC (sTC (sTC (sTC x l0 0 (tC x l1 0)) l0 1 (tC (sTC x l0 0 (tC x l1 0)) l1 1)) l0 2 (tC (sTC (sTC x l0 0 (tC x l1 0)) l0 1 (tC (sTC x l0 0 (tC x l1 0)) l1 1)) l1 2)) l0 3 (tC (sTC (sTC (sTC x l0 0 (tC x l1 0)) l0 1 (tC (sTC x l0 0 (tC x l1 0)) l1 1)) l0 2 (tC (sTC (sTC x l0 0 (tC x l1 0)) l0 1 (tC (sTC x l0 0 (tC x l1 0)) l1 1)) l1 2)) l1 3)) l0 4 (tC (sTC (sTC (sTC (sTC x l0 0 (tC x l1 0)) l0 1 (tC (sTC x l0 0 (tC x l1 0)) l1 1)) l0 2 (tC (sTC (sTC x l0 0 (tC x l1 0)) l0 1 (tC (sTC x l0 0 (tC x l1 0)) l1 1)) l1 2)) l0 3 (tC (sTC (sTC (sTC x l0 0 (tC x l1 0)) l0 1 (tC (sTC x l0 0 (tC x l1 0)) l1 1)) l0 2 (tC (sTC (sTC x l0 0 (tC x l1 0)) l0 1 (tC (sTC x l0 0 (tC x l1 0)) l1 1)) l1 2)) l1 3)) l1 4)) l1 5)) l0 6 (tF (sTF (sTC (sTC (sTC (sTC (sTC x l0 0 (tC x l1 0)) l0 1 (tC (sTC x l0 0 (tC x l1 0)) l1 1)) l0 2 (tC (sTC (sTC x l0 0 (tC x l1 0)) l0 1 (tC (sTC x l0 0 (tC x l1 0)) l1 1)) l1 2)) l0 3 (tC (sTC (sTC (sTC x l0 0 (tC x l1 0)) l0 1 (tC (sTC x l0 0 (tC x l1 0)) l1 1)) l0 2 (tC (sTC (sTC x l0 0 (tC x l1 0)) l0 1 (tC (sTC x l0 0 (tC x l1 0)) l1 1)) l1 2)) l1 3)) l0 4 (tC (sTC (sTC (sTC (sTC x l0 0 (tC x l1 0)) l0 1 (tC (sTC x l0 0 (tC x l1 0)) l1 1)) l0 2 (tC (sTC (sTC x l0 0 (tC x l1 0)) l0 1 (tC (sTC x l0 0 (tC x l1 0)) l1 1)) l1 2)) l0 3 (tC (sTC (sTC (sTC x l0 0 (tC x l1 0)) l0 1 (tC (sTC x l0 0 (tC x l1 0)) l1 1)) l0 2 (tC (sTC (sTC x l0 0 (tC x l1 0)) l0 1 (tC (sTC x l0 0 (tC x l1 0)) l1 1)) l1 2)) l1 3)) l1 4)) l0 5 (tF (sTC (sTC (sTC (sTC (sTC x l0 0 (tC x l1 0)) l0 1 (tC (sTC x l0 0 (tC x l1 0)) l1 1)) l0 2 (tC (sTC (sTC x l0 0 (tC x l1 0)) l0 1 (tC (sTC x l0 0 (tC x l1 0)) l1 1)) l1 2)) l0 3 (tC (sTC (sTC (sTC x l0 0 (tC x l1 0)) l0 1 (tC (sTC x l0 0 (tC x l1 0)) l1 1)) l0 2 (tC (sTC (sTC x l0 0 (tC x l1 0)) l0 1 (tC (sTC x l0 0 (tC x l1 0)) l1 1)) l1 2)) l1 3)) l0 4 (tC (sTC (sTC (sTC (sTC x l0 0 (tC x l1 0)) l0 1 (tC (sTC x l0 0 (tC x l1 0)) l1 1)) l0 2 (tC (sTC (sTC x l0 0 (tC x l1 0)) l0 1 (tC (sTC x l0 0 (tC x l1 0)) l1 1)) l1 2)) l0 3 (tC (sTC (sTC (sTC x l0 0 (tC x l1 0)) l0 1 (tC (sTC x l0 0 (tC x l1 0)) l1 1)) l0 2 (tC (sTC (sTC x l0 0 (tC x l1 0)) l0 1 (tC (sTC x l0 0 (tC x l1 0)) l1 1)) l1 2)) l1 3)) l1 4)) l1 5)) l1 6)) l0 7 (tF (sTF (sTF (sTC (sTC (sTC (sTC (sTC x l0 0 (tC x l1 0)) l0 1 (tC (sTC x l0 0 (tC x l1 0)) l1 1)) l0 2 (tC (sTC (sTC x l0 0 (tC x l1 0)) l0 1 (tC (sTC x l0 0 (tC x l1 0)) l1 1)) l1 2)) l0 3 (tC (sTC (sTC (sTC x l0 0 (tC x l1 0)) l0 1 (tC (sTC x l0 0 (tC x l1 0)) l1 1)) l0 2 (tC (sTC (sTC x l0 0 (tC x l1 0)) l0 1 (tC (sTC x l0 0 (tC x l1 0)) l1 1)) l1 2)) l1 3)) l0 4 (tC (sTC (sTC (sTC (sTC x l0 0 (tC x l1 0)) l0 1 (tC (sTC x l0 0 (tC x l1 0)) l1 1)) l0 2 (tC (sTC (sTC x l0 0 (tC x l1 0)) l0 1 (tC (sTC x l0 0 (tC x l1 0)) l1 1)) l1 2)) l0 3 (tC (sTC (sTC (sTC x l0 0 (tC x l1 0)) l0 1 (tC (sTC x l0 0 (tC x l1 0)) l1 1)) l0 2 (tC (sTC (sTC x l0 0 (tC x l1 0)) l0 1 (tC (sTC x l0 0 (tC x l1 0)) l1 1)) l1 2)) l1 3)) l1 4)) l0 5 (tF (sTC (sTC (sTC (sTC (sTC x l0 0 (tC x l1 0)) l0 1 (tC (sTC x l0 0 (tC x l1 0)) l1 1)) l0 2 (tC (sTC (sTC x l0 0 (tC x l1 0)) l0 1 (tC (sTC x l0 0 (tC x l1 0)) l1 1)) l1 2)) l0 3 (tC (sTC (sTC (sTC x l0 0 (tC x l1 0)) l0 1 (tC (sTC x l0 0 (tC x l1 0)) l1 1)) l0 2 (tC (sTC (sTC x l0 0 (tC x l1 0)) l0 1 (tC (sTC x l0 0 (tC x l1 0)) l1 1)) l1 2)) l1 3)) l0 4 (tC (sTC (sTC (sTC (sTC x l0 0 (tC x l1 0)) l0 1 (tC (sTC x l0 0 (tC x l1 0)) l1 1)) l0 2 (tC (sTC (sTC x l0 0 (tC x l1 0)) l0 1 (tC (sTC x l0 0 (tC x l1 0)) l1 1)) l1 2)) l0 3 (tC (sTC (sTC (sTC x l0 0 (tC x l1 0)) l0 1 (tC (sTC x l0 0 (tC x l1 0)) l1 1)) l0 2 (tC (sTC (sTC x l0 0 (tC x l1 0)) l0 1 (tC (sTC x l0 0 (tC x l1 0)) l1 1)) l1 2)) l1 3)) l1 4)) l1 5)) l0 6 (tF (sTF (sTC (sTC (sTC (sTC (sTC x l0 0 (tC x l1 0)) l0 1 (tC (sTC x l0 0 (tC x l1 0)) l1 1)) l0 2 (tC (sTC (sTC x l0 0 (tC x l1 0)) l0 1 (tC (sTC x l0 0 (tC x l1 0)) l1 1)) l1 2)) l0 3 (tC (sTC (sTC (sTC x l0 0 (tC x l1 0)) l0 1 (tC (sTC x l0 0 (tC x l1 0)) l1 1)) l0 2 (tC (sTC (sTC x l0 0 (tC x l1 0)) l0 1 (tC (sTC x l0 0 (tC x l1 0)) l1 1)) l1 2)) l1 3)) l0 4 (tC (sTC (sTC (sTC (sTC x l0 0 (tC x l1 0)) l0 1 (tC (sTC x l0 0 (tC x l1 0)) l1 1)) l0 2 (tC (sTC (sTC x l0 0 (tC x l1 0)) l0 1 (tC (sTC x l0 0 (tC x l1 0)) l1 1)) l1 2)) l0 3 (tC (sTC (sTC (sTC x l0 0 (tC x l1 0)) l0 1 (tC (sTC x l0 0 (tC x l1 0)) l1 1)) l0 2 (tC (sTC (sTC x l0 0 (tC x l1 0)) l0 1 (tC (sTC x l0 0 (tC x l1 0)) l1 1)) l1 2)) l1 3)) l1 4)) l0 5 (tF (sTC (sTC (sTC (sTC (sTC x l0 0 (tC x l1 0)) l0 1 (tC (sTC x l0 0 (tC x l1 0)) l1 1)) l0 2 (tC (sTC (sTC x l0 0 (tC x l1 0)) l0 1 (tC (sTC x l0 0 (tC x l1 0)) l1 1)) l1 2)) l0 3 (tC (sTC (sTC (sTC x l0 0 (tC x l1 0)) l0 1 (tC (sTC x l0 0 (tC x l1 0)) l1 1)) l0 2 (tC (sTC (sTC x l0 0 (tC x l1 0)) l0 1 (tC (sTC x l0 0 (tC x l1 0)) l1 1)) l1 2)) l1 3)) l0 4 (tC (sTC (sTC (sTC (sTC x l0 0 (tC x l1 0)) l0 1 (tC (sTC x l0 0 (tC x l1 0)) l1 1)) l0 2 (tC (sTC (sTC x l0 0 (tC x l1 0)) l0 1 (tC (sTC x l0 0 (tC x l1 0)) l1 1)) l1 2)) l0 3 (tC (sTC (sTC (sTC x l0 0 (tC x l1 0)) l0 1 (tC (sTC x l0 0 (tC x l1 0)) l1 1)) l0 2 (tC (sTC (sTC x l0 0 (tC x l1 0)) l0 1 (tC (sTC x l0 0 (tC x l1 0)) l1 1)) l1 2)) l1 3)) l1 4)) l1 5)) l1 6)) l1 7)) l1 8)) l1 9)) l0 10 (tF (sTF (sTF (sTF (sTF (sTF (sTC (sTC (sTC (sTC (sTC x l0 0 (tC x l1 0)) l0 1 (tC (sTC x l0 0 (tC x l1 0)) l1 1)) l0 2 (tC (sTC (sTC x l0 0 (tC x l1 0)) l0 1 (tC (sTC x l0 0 (tC x l1 0)) l1 1)) l1 2)) l0 3 (tC (sTC (sTC (sTC x l0 0 (tC x l1 0)) l0 1 (tC (sTC x l0 0 (tC x l1 0)) l1 1)) l0 2 (tC (sTC (sTC x l0 0 (tC x l1 0)) l0 1 (tC (sTC x l0 0 (tC x l1 0)) l1 1)) l1 2)) l1 3)) l0 4 (tC (sTC (sTC (sTC (sTC x l0 0 (tC x l1 0)) l0 1 (tC (sTC x l0 0 (tC x l1 0)) l1 1)) l0 2 (tC (sTC (sTC x l0 0 (tC x l1 0)) l0 1 (tC (sTC x l0 0 (tC x l1 0)) l1 1)) l1 2)) l0 3 (tC (sTC (sTC (sTC x l0 0 (tC x l1 0)) l0 1 (tC (sTC x l0 0 (tC x l1 0)) l1 1)) l0 2 (tC (sTC (sTC x l0 0 (tC x l1 0)) l0 1 (tC (sTC x l0 0 (tC x l1 0)) l1 1)) l1 2)) l1 3)) l1 4)) l0 5 (tF (sTC (sTC (sTC (sTC (sTC x l0 0 (tC x l1 0)) l0 1 (tC (sTC x l0 0 (tC x l1 0)) l1 1)) l0 2 (tC (sTC (sTC x l0 0 (tC x l1 0)) l0 1 (tC (sTC x l0 0 (tC x l1 0)) l1 1)) l1 2)) l0 3 (tC (sTC (sTC (sTC x l0 0 (tC x l1 0)) l0 1 (tC (sTC x l0 0 (tC x l1 0)) l1 1)) l0 2 (tC (sTC (sTC x l0 0 (tC x l1 0)) l0 1 (tC (sTC x l0 0 (tC x l1 0)) l1 1)) l1 2)) l1 3)) l0 4 (tC (sTC (sTC (sTC (sTC x l0 0 (tC x l1 0)) l0 1 (tC (sTC x l0 0 (tC x l1 0)) l1 1)) l0 2 (tC (sTC (sTC x l0 0 (tC x l1 0)) l0 1 (tC (sTC x l0 0 (tC x l1 0)) l1 1)) l1 2)) l0 3 (tC (sTC (sTC (sTC x l0 0 (tC x l1 0)) l0 1 (tC (sTC x l0 0 (tC x l1 0)) l1 1)) l0 2 (tC (sTC (sTC x l0 0 (tC x l1 0)) l0 1 (tC (sTC x l0 0 (tC x l1 0)) l1 1)) l1 2)) l1 3)) l1 4)) l1 5)) l0 6 (tF (sTF (sTC (sTC (sTC (sTC (sTC x l0 0 (tC x l1 0)) l0 1 (tC (sTC x l0 0 (tC x l1 0)) l1 1)) l0 2 (tC (sTC (sTC x l0 0 (tC x l1 0)) l0 1 (tC (sTC x l0 0 (tC x l1 0)) l1 1)) l1 2)) l0 3 (tC (sTC (sTC (sTC x l0 0 (tC x l1 0)) l0 1 (tC (sTC x l0 0 (tC x l1 0)) l1 1)) l0 2 (tC (sTC (sTC x l0 0 (tC x l1 0)) l0 1 (tC (sTC x l0 0 (tC x l1 0)) l1 1)) l1 2)) l1 3)) l0 4 (tC (sTC (sTC (sTC (sTC x l0 0 (tC x l1 0)) l0 1 (tC (sTC x l0 0 (tC x l1 0)) l1 1)) l0 2 (tC (sTC (sTC x l0 0 (tC x l1 0)) l0 1 (tC (sTC x l0 0 (tC x l1 0)) l1 1)) l1 2)) l0 3 (tC (sTC (sTC (sTC x l0 0 (tC x l1 0)) l0 1 (tC (sTC x l0 0 (tC x l1 0)) l1 1)) l0 2 (tC (sTC (sTC x l0 0 (tC x l1 0)) l0 1 (tC (sTC x l0 0 (tC x l1 0)) l1 1)) l1 2)) l1 3)) l1 4)) l0 5 (tF (sTC (sTC (sTC (sTC (sTC x l0 0 (tC x l1 0)) l0 1 (tC (sTC x l0 0 (tC x l1 0)) l1 1)) l0 2 (tC (sTC (sTC x l0 0 (tC x l1 0)) l0 1 (tC (sTC x l0 0 (tC x l1 0)) l1 1)) l1 2)) l0 3 (tC (sTC (sTC (sTC x l0 0 (tC x l1 0)) l0 1 (tC (sTC x l0 0 (tC x l1 0)) l1 1)) l0 2 (tC (sTC (sTC x l0 0 (tC x l1 0)) l0 1 (tC (sTC x l0 0 (tC x l1 0)) l1 1)) l1 2)) l1 3)) l0 4 (tC (sTC (sTC (sTC (sTC x l0 0 (tC x l1 0)) l0 1 (tC (sTC x l0 0 (tC x l1 0)) l1 1)) l0 2 (tC (sTC (sTC x l0 0 (tC x l1 0)) l0 1 (tC (sTC x l0 0 (tC x l1 0)) l1 1)) l1 2)) l0 3 (tC (sTC (sTC (sTC x l0 0 (tC x l1 0)) l0 1 (tC (sTC x l0 0 (tC x l1 0)) l1 1)) l0 2 (tC (sTC (sTC x l0 0 (tC x l1 0)) l0 1 (tC (sTC x l0 0 (tC x l1 0)) l1 1)) l1 2)) l1 3)) l1 4)) l1 5)) l1 6)) l0 7 (tF (sTF (sTF (sTC (sTC (sTC (sTC (sTC x l0 0 (tC x l1 0)) l0 1 (tC (sTC x l0 0 (tC x l1 0)) l1 1)) l0 2 (tC (sTC (sTC x l0 0 (tC x l1 0)) l0 1 (tC (sTC x l0 0 (tC x l1 0)) l1 1)) l1 2)) l0 3 (tC (sTC (sTC (sTC x l0 0 (tC x l1 0)) l0 1 (tC (sTC x l0 0 (tC x l1 0)) l1 1)) l0 2 (tC (sTC (sTC x l0 0 (tC x l1 0)) l0 1 (tC (sTC x l0 0 (tC x l1 0)) l1 1)) l1 2)) l1 3)) l0 4 (tC (sTC (sTC (sTC (sTC x l0 0 (tC x l1 0)) l0 1 (tC (sTC x l0 0 (tC x l1 0)) l1 1)) l0 2 (tC (sTC (sTC x l0 0 (tC x l1 0)) l0 1 (tC (sTC x l0 0 (tC x l1 0)) l1 1)) l1 2)) l0 3 (tC (sTC (sTC (sTC x l0 0 (tC x l1 0)) l0 1 (tC (sTC x l0 0 (tC x l1 0)) l1 1)) l0 2 (tC (sTC (sTC x l0 0 (tC x l1 0)) l0 1 (tC (sTC x l0 0 (tC x l1 0)) l1 1)) l1 2)) l1 3)) l1 4)) l0 5 (tF (sTC (sTC (sTC (sTC (sTC x l0 0 (tC x l1 0)) l0 1 (tC (sTC x l0 0 (tC x l1 0)) l1 1)) l0 2 (tC (sTC (sTC x l0 0 (tC x l1 0)) l0 1 (tC (sTC x l0 0 (tC x l1 0)) l1 1)) l1 2)) l0 3 (tC (sTC (sTC (sTC x l0 0 (tC x l1 0)) l0 1 (tC (sTC x l0 0 (tC x l1 0)) l1 1)) l0 2 (tC (sTC (sTC x l0 0 (tC x l1 0)) l0 1 (tC (sTC x l0 0 (tC x l1 0)) l1 1)) l1 2)) l1 3)) l0 4 (tC (sTC (sTC (sTC (sTC x l0 0 (tC x l1 0)) l0 1 (tC (sTC x l0 0 (tC x l1 0)) l1 1)) l0 2 (tC (sTC (sTC x l0 0 (tC x l1 0)) l0 1 (tC (sTC x l0 0 (tC x l1 0)) l1 1)) l1 2)) l0 3 (tC (sTC (sTC (sTC x l0 0 (tC x l1 0)) l0 1 (tC (sTC x l0 0 (tC x l1 0)) l1 1)) l0 2 (tC (sTC (sTC x l0 0 (tC x l1 0)) l0 1 (tC (sTC x l0 0 (tC x l1 0)) l1 1)) l1 2)) l1 3)) l1 4)) l1 5)) l0 6 (tF (sTF (sTC (sTC (sTC (sTC (sTC x l0 0 (tC x l1 0)) l0 1 (tC (sTC x l0 0 (tC x l1 0)) l1 1)) l0 2 (tC (sTC (sTC x l0 0 (tC x l1 0)) l0 1 (tC (sTC x l0 0 (tC x l1 0)) l1 1)) l1 2)) l0 3 (tC (sTC (sTC (sTC x l0 0 (tC x l1 0)) l0 1 (tC (sTC x l0 0 (tC x l1 0)) l1 1)) l0 2 (tC (sTC (sTC x l0 0 (tC x l1 0)) l0 1 (tC (sTC x l0 0 (tC x l1 0)) l1 1)) l1 2)) l1 3)) l0 4 (tC (sTC (sTC (sTC (sTC x l0 0 (tC x l1 0)) l0 1 (tC (sTC x l0 0 (tC x l1 0)) l1 1)) l0 2 (tC (sTC (sTC x l0 0 (tC x l1 0)) l0 1 (tC (sTC x l0 0 (tC x l1 0)) l1 1)) l1 2)) l0 3 (tC (sTC (sTC (sTC x l0 0 (tC x l1 0)) l0 1 (tC (sTC x l0 0 (tC x l1 0)) l1 1)) l0 2 (tC (sTC (sTC x l0 0 (tC x l1 0)) l0 1 (tC (sTC x l0 0 (tC x l1 0)) l1 1)) l1 2)) l1 3)) l1 4)) l0 5 (tF (sTC (sTC (sTC (sTC (sTC x l0 0 (tC x l1 0)) l0 1 (tC (sTC x l0 0 (tC x l1 0)) l1 1)) l0 2 (tC (sTC (sTC x l0 0 (tC x l1 0)) l0 1 (tC (sTC x l0 0 (tC x l1 0)) l1 1)) l1 2)) l0 3 (tC (sTC (sTC (sTC x l0 0 (tC x l1 0)) l0 1 (tC (sTC x l0 0 (tC x l1 0)) l1 1)) l0 2 (tC (sTC (sTC x l0 0 (tC x l1 0)) l0 1 (tC (sTC x l0 0 (tC x l1 0)) l1 1)) l1 2)) l1 3)) l0 4 (tC (sTC (sTC (sTC (sTC x l0 0 (tC x l1 0)) l0 1 (tC (sTC x l0 0 (tC x l1 0)) l1 1)) l0 2 (tC (sTC (sTC x l0 0 (tC x l1 0)) l0 1 (tC (sTC x l0 0 (tC x l1 0)) l1 1)) l1 2)) l0 3 (tC (sTC (sTC (sTC x l0 0 (tC x l1 0)) l0 1 (tC (sTC x l0 0 (tC x l1 0)) l1 1)) l0 2 (tC (sTC (sTC x l0 0 (tC x l1 0)) l0 1 (tC (sTC x l0 0 (tC x l1 0)) l1 1)) l1 2)) l1 3)) l1 4)) l1 5)) l1 6)) l1 7)) l0 8 (tF (sTF (sTF (sTF (sTC (sTC (sTC (sTC (sTC x l0 0 (tC x l1 0)) l0 1 (tC (sTC x l0 0 (tC x l1 0)) l1 1)) l0 2 (tC (sTC (sTC x l0 0 (tC x l1 0)) l0 1 (tC (sTC x l0 0 (tC x l1 0)) l1 1)) l1 2)) l0 3 (tC (sTC (sTC (sTC x l0 0 (tC x l1 0)) l0 1 (tC (sTC x l0 0 (tC x l1 0)) l1 1)) l0 2 (tC (sTC (sTC x l0 0 (tC x l1 0)) l0 1 (tC (sTC x l0 0 (tC x l1 0)) l1 1)) l1 2)) l1 3)) l0 4 (tC (sTC (sTC (sTC (sTC x l0 0 (tC x l1 0)) l0 1 (tC (sTC x l0 0 (tC x l1 0)) l1 1)) l0 2 (tC (sTC (sTC x l0 0 (tC x l1 0)) l0 1 (tC (sTC x l0 0 (tC x l1 0)) l1 1)) l1 2)) l0 3 (tC (sTC (sTC (sTC x l0 0 (tC x l1 0)) l0 1 (tC (sTC x l0 0 (tC x l1 0)) l1 1)) l0 2 (tC (sTC (sTC x l0 0 (tC x l1 0)) l0 1 (tC (sTC x l0 0 (tC x l1 0)) l1 1)) l1 2)) l1 3)) l1 4)) l0 5 (tF (sTC (sTC (sTC (sTC (sTC x l0 0 (tC x l1 0)) l0 1 (tC (sTC x l0 0 (tC x l1 0)) l1 1)) l0 2 (tC (sTC (sTC x l0 0 (tC x l1 0)) l0 1 (tC (sTC x l0 0 (tC x l1 0)) l1 1)) l1 2)) l0 3 (tC (sTC (sTC (sTC x l0 0 (tC x l1 0)) l0 1 (tC (sTC x l0 0 (tC x l1 0)) l1 1)) l0 2 (tC (sTC (sTC x l0 0 (tC x l1 0)) l0 1 (tC (sTC x l0 0 (tC x l1 0)) l1 1)) l1 2)) l1 3)) l0 4 (tC (sTC (sTC (sTC (sTC x l0 0 (tC x l1 0)) l0 1 (tC (sTC x l0 0 (tC x l1 0)) l1 1)) l0 2 (tC (sTC (sTC x l0 0 (tC x l1 0)) l0 1 (tC (sTC x l0 0 (tC x l1 0)) l1 1)) l1 2)) l0 3 (tC (sTC (sTC (sTC x l0 0 (tC x l1 0)) l0 1 (tC (sTC x l0 0 (tC x l1 0)) l1 1)) l0 2 (tC (sTC (sTC x l0 0 (tC x l1 0)) l0 1 (tC (sTC x l0 0 (tC x l1 0)) l1 1)) l1 2)) l1 3)) l1 4)) l1 5)) l0 6 (tF (sTF (sTC (sTC (sTC (sTC (sTC x l0 0 (tC x l1 0)) l0 1 (tC (sTC x l0 0 (tC x l1 0)) l1 1)) l0 2 (tC (sTC (sTC x l0 0 (tC x l1 0)) l0 1 (tC (sTC x l0 0 (tC x l1 0)) l1 1)) l1 2)) l0 3 (tC (sTC (sTC (sTC x l0 0 (tC x l1 0)) l0 1 (tC (sTC x l0 0 (tC x l1 0)) l1 1)) l0 2 (tC (sTC (sTC x l0 0 (tC x l1 0)) l0 1 (tC (sTC x l0 0 (tC x l1 0)) l1 1)) l1 2)) l1 3)) l0 4 (tC (sTC (sTC (sTC (sTC x l0 0 (tC x l1 0)) l0 1 (tC (sTC x l0 0 (tC x l1 0)) l1 1)) l0 2 (tC (sTC (sTC x l0 0 (tC x l1 0)) l0 1 (tC (sTC x l0 0 (tC x l1 0)) l1 1)) l1 2)) l0 3 (tC (sTC (sTC (sTC x l0 0 (tC x l1 0)) l0 1 (tC (sTC x l0 0 (tC x l1 0)) l1 1)) l0 2 (tC (sTC (sTC x l0 0 (tC x l1 0)) l0 1 (tC (sTC x l0 0 (tC x l1 0)) l1 1)) l1 2)) l1 3)) l1 4)) l0 5 (tF (sTC (sTC (sTC (sTC (sTC x l0 0 (tC x l1 0)) l0 1 (tC (sTC x l0 0 (tC x l1 0)) l1 1)) l0 2 (tC (sTC (sTC x l0 0 (tC x l1 0)) l0 1 (tC (sTC x l0 0 (tC x l1 0)) l1 1)) l1 2)) l0 3 (tC (sTC (sTC (sTC x l0 0 (tC x l1 0)) l0 1 (tC (sTC x l0 0 (tC x l1 0)) l1 1)) l0 2 (tC (sTC (sTC x l0 0 (tC x l1 0)) l0 1 (tC (sTC x l0 0 (tC x l1 0)) l1 1)) l1 2)) l1 3)) l0 4 (tC (sTC (sTC (sTC (sTC x l0 0 (tC x l1 0)) l0 1 (tC (sTC x l0 0 (tC x l1 0)) l1 1)) l0 2 (tC (sTC (sTC x l0 0 (tC x l1 0)) l0 1 (tC (sTC x l0 0 (tC x l1 0)) l1 1)) l1 2)) l0 3 (tC (sTC (sTC (sTC x l0 0 (tC x l1 0)) l0 1 (tC (sTC x l0 0 (tC x l1 0)) l1 1)) l0 2 (tC (sTC (sTC x l0 0 (tC x l1 0)) l0 1 (tC (sTC x l0 0 (tC x l1 0)) l1 1)) l1 2)) l1 3)) l1 4)) l1 5)) l1 6)) l0 7 (tF (sTF (sTF (sTC (sTC (sTC (sTC (sTC x l0 0 (tC x l1 0)) l0 1 (tC (sTC x l0 0 (tC x l1 0)) l1 1)) l0 2 (tC (sTC (sTC x l0 0 (tC x l1 0)) l0 1 (tC (sTC x l0 0 (tC x l1 0)) l1 1)) l1 2)) l0 3 (tC (sTC (sTC (sTC x l0 0 (tC x l1 0)) l0 1 (tC (sTC x l0 0 (tC x l1 0)) l1 1)) l0 2 (tC (sTC (sTC x l0 0 (tC x l1 0)) l0 1 (tC (sTC x l0 0 (tC x l1 0)) l1 1)) l1 2)) l1 3)) l0 4 (tC (sTC (sTC (sTC (sTC x l0 0 (tC x l1 0)) l0 1 (tC (sTC x l0 0 (tC x l1 0)) l1 1)) l0 2 (tC (sTC (sTC x l0 0 (tC x l1 0)) l0 1 (tC (sTC x l0 0 (tC x l1 0)) l1 1)) l1 2)) l0 3 (tC (sTC (sTC (sTC x l0 0 (tC x l1 0)) l0 1 (tC (sTC x l0 0 (tC x l1 0)) l1 1)) l0 2 (tC (sTC (sTC x l0 0 (tC x l1 0)) l0 1 (tC (sTC x l0 0 (tC x l1 0)) l1 1)) l1 2)) l1 3)) l1 4)) l0 5 (tF (sTC (sTC (sTC (sTC (sTC x l0 0 (tC x l1 0)) l0 1 (tC (sTC x l0 0 (tC x l1 0)) l1 1)) l0 2 (tC (sTC (sTC x l0 0 (tC x l1 0)) l0 1 (tC (sTC x l0 0 (tC x l1 0)) l1 1)) l1 2)) l0 3 (tC (sTC (sTC (sTC x l0 0 (tC x l1 0)) l0 1 (tC (sTC x l0 0 (tC x l1 0)) l1 1)) l0 2 (tC (sTC (sTC x l0 0 (tC x l1 0)) l0 1 (tC (sTC x l0 0 (tC x l1 0)) l1 1)) l1 2)) l1 3)) l0 4 (tC (sTC (sTC (sTC (sTC x l0 0 (tC x l1 0)) l0 1 (tC (sTC x l0 0 (tC x l1 0)) l1 1)) l0 2 (tC (sTC (sTC x l0 0 (tC x l1 0)) l0 1 (tC (sTC x l0 0 (tC x l1 0)) l1 1)) l1 2)) l0 3 (tC (sTC (sTC (sTC x l0 0 (tC x l1 0)) l0 1 (tC (sTC x l0 0 (tC x l1 0)) l1 1)) l0 2 (tC (sTC (sTC x l0 0 (tC x l1 0)) l0 1 (tC (sTC x l0 0 (tC x l1 0)) l1 1)) l1 2)) l1 3)) l1 4)) l1 5)) l0 6 (tF (sTF (sTC (sTC (sTC (sTC (sTC x l0 0 (tC x l1 0)) l0 1 (tC (sTC x l0 0 (tC x l1 0)) l1 1)) l0 2 (tC (sTC (sTC x l0 0 (tC x l1 0)) l0 1 (tC (sTC x l0 0 (tC x l1 0)) l1 1)) l1 2)) l0 3 (tC (sTC (sTC (sTC x l0 0 (tC x l1 0)) l0 1 (tC (sTC x l0 0 (tC x l1 0)) l1 1)) l0 2 (tC (sTC (sTC x l0 0 (tC x l1 0)) l0 1 (tC (sTC x l0 0 (tC x l1 0)) l1 1)) l1 2)) l1 3)) l0 4 (tC (sTC (sTC (sTC (sTC x l0 0 (tC x l1 0)) l0 1 (tC (sTC x l0 0 (tC x l1 0)) l1 1)) l0 2 (tC (sTC (sTC x l0 0 (tC x l1 0)) l0 1 (tC (sTC x l0 0 (tC x l1 0)) l1 1)) l1 2)) l0 3 (tC (sTC (sTC (sTC x l0 0 (tC x l1 0)) l0 1 (tC (sTC x l0 0 (tC x l1 0)) l1 1)) l0 2 (tC (sTC (sTC x l0 0 (tC x l1 0)) l0 1 (tC (sTC x l0 0 (tC x l1 0)) l1 1)) l1 2)) l1 3)) l1 4)) l0 5 (tF (sTC (sTC (sTC (sTC (sTC x l0 0 (tC x l1 0)) l0 1 (tC (sTC x l0 0 (tC x l1 0)) l1 1)) l0 2 (tC (sTC (sTC x l0 0 (tC x l1 0)) l0 1 (tC (sTC x l0 0 (tC x l1 0)) l1 1)) l1 2)) l0 3 (tC (sTC (sTC (sTC x l0 0 (tC x l1 0)) l0 1 (tC (sTC x l0 0 (tC x l1 0)) l1 1)) l0 2 (tC (sTC (sTC x l0 0 (tC x l1 0)) l0 1 (tC (sTC x l0 0 (tC x l1 0)) l1 1)) l1 2)) l1 3)) l0 4 (tC (sTC (sTC (sTC (sTC x l0 0 (tC x l1 0)) l0 1 (tC (sTC x l0 0 (tC x l1 0)) l1 1)) l0 2 (tC (sTC (sTC x l0 0 (tC x l1 0)) l0 1 (tC (sTC x l0 0 (tC x l1 0)) l1 1)) l1 2)) l0 3 (tC (sTC (sTC (sTC x l0 0 (tC x l1 0)) l0 1 (tC (sTC x l0 0 (tC x l1 0)) l1 1)) l0 2 (tC (sTC (sTC x l0 0 (tC x l1 0)) l0 1 (tC (sTC x l0 0 (tC x l1 0)) l1 1)) l1 2)) l1 3)) l1 4)) l1 5)) l1 6)) l1 7)) l1 8)) l0 9 (tF (sTF (sTF (sTF (sTF (sTC (sTC (sTC (sTC (sTC x l0 0 (tC x l1 0)) l0 1 (tC (sTC x l0 0 (tC x l1 0)) l1 1)) l0 2 (tC (sTC (sTC x l0 0 (tC x l1 0)) l0 1 (tC (sTC x l0 0 (tC x l1 0)) l1 1)) l1 2)) l0 3 (tC (sTC (sTC (sTC x l0 0 (tC x l1 0)) l0 1 (tC (sTC x l0 0 (tC x l1 0)) l1 1)) l0 2 (tC (sTC (sTC x l0 0 (tC x l1 0)) l0 1 (tC (sTC x l0 0 (tC x l1 0)) l1 1)) l1 2)) l1 3)) l0 4 (tC (sTC (sTC (sTC (sTC x l0 0 (tC x l1 0)) l0 1 (tC (sTC x l0 0 (tC x l1 0)) l1 1)) l0 2 (tC (sTC (sTC x l0 0 (tC x l1 0)) l0 1 (tC (sTC x l0 0 (tC x l1 0)) l1 1)) l1 2)) l0 3 (tC (sTC (sTC (sTC x l0 0 (tC x l1 0)) l0 1 (tC (sTC x l0 0 (tC x l1 0)) l1 1)) l0 2 (tC (sTC (sTC x l0 0 (tC x l1 0)) l0 1 (tC (sTC x l0 0 (tC x l1 0)) l1 1)) l1 2)) l1 3)) l1 4)) l0 5 (tF (sTC (sTC (sTC (sTC (sTC x l0 0 (tC x l1 0)) l0 1 (tC (sTC x l0 0 (tC x l1 0)) l1 1)) l0 2 (tC (sTC (sTC x l0 0 (tC x l1 0)) l0 1 (tC (sTC x l0 0 (tC x l1 0)) l1 1)) l1 2)) l0 3 (tC (sTC (sTC (sTC x l0 0 (tC x l1 0)) l0 1 (tC (sTC x l0 0 (tC x l1 0)) l1 1)) l0 2 (tC (sTC (sTC x l0 0 (tC x l1 0)) l0 1 (tC (sTC x l0 0 (tC x l1 0)) l1 1)) l1 2)) l1 3)) l0 4 (tC (sTC (sTC (sTC (sTC x l0 0 (tC x l1 0)) l0 1 (tC (sTC x l0 0 (tC x l1 0)) l1 1)) l0 2 (tC (sTC (sTC x l0 0 (tC x l1 0)) l0 1 (tC (sTC x l0 0 (tC x l1 0)) l1 1)) l1 2)) l0 3 (tC (sTC (sTC (sTC x l0 0 (tC x l1 0)) l0 1 (tC (sTC x l0 0 (tC x l1 0)) l1 1)) l0 2 (tC (sTC (sTC x l0 0 (tC x l1 0)) l0 1 (tC (sTC x l0 0 (tC x l1 0)) l1 1)) l1 2)) l1 3)) l1 4)) l1 5)) l0 6 (tF (sTF (sTC (sTC (sTC (sTC (sTC x l0 0 (tC x l1 0)) l0 1 (tC (sTC x l0 0 (tC x l1 0)) l1 1)) l0 2 (tC (sTC (sTC x l0 0 (tC x l1 0)) l0 1 (tC (sTC x l0 0 (tC x l1 0)) l1 1)) l1 2)) l0 3 (tC (sTC (sTC (sTC x l0 0 (tC x l1 0)) l0 1 (tC (sTC x l0 0 (tC x l1 0)) l1 1)) l0 2 (tC (sTC (sTC x l0 0 (tC x l1 0)) l0 1 (tC (sTC x l0 0 (tC x l1 0)) l1 1)) l1 2)) l1 3)) l0 4 (tC (sTC (sTC (sTC (sTC x l0 0 (tC x l1 0)) l0 1 (tC (sTC x l0 0 (tC x l1 0)) l1 1)) l0 2 (tC (sTC (sTC x l0 0 (tC x l1 0)) l0 1 (tC (sTC x l0 0 (tC x l1 0)) l1 1)) l1 2)) l0 3 (tC (sTC (sTC (sTC x l0 0 (tC x l1 0)) l0 1 (tC (sTC x l0 0 (tC x l1 0)) l1 1)) l0 2 (tC (sTC (sTC x l0 0 (tC x l1 0)) l0 1 (tC (sTC x l0 0 (tC x l1 0)) l1 1)) l1 2)) l1 3)) l1 4)) l0 5 (tF (sTC (sTC (sTC (sTC (sTC x l0 0 (tC x l1 0)) l0 1 (tC (sTC x l0 0 (tC x l1 0)) l1 1)) l0 2 (tC (sTC (sTC x l0 0 (tC x l1 0)) l0 1 (tC (sTC x l0 0 (tC x l1 0)) l1 1)) l1 2)) l0 3 (tC (sTC (sTC (sTC x l0 0 (tC x l1 0)) l0 1 (tC (sTC x l0 0 (tC x l1 0)) l1 1)) l0 2 (tC (sTC (sTC x l0 0 (tC x l1 0)) l0 1 (tC (sTC x l0 0 (tC x l1 0)) l1 1)) l1 2)) l1 3)) l0 4 (tC (sTC (sTC (sTC (sTC x l0 0 (tC x l1 0)) l0 1 (tC (sTC x l0 0 (tC x l1 0)) l1 1)) l0 2 (tC (sTC (sTC x l0 0 (tC x l1 0)) l0 1 (tC (sTC x l0 0 (tC x l1 0)) l1 1)) l1 2)) l0 3 (tC (sTC (sTC (sTC x l0 0 (tC x l1 0)) l0 1 (tC (sTC x l0 0 (tC x l1 0)) l1 1)) l0 2 (tC (sTC (sTC x l0 0 (tC x l1 0)) l0 1 (tC (sTC x l0 0 (tC x l1 0)) l1 1)) l1 2)) l1 3)) l1 4)) l1 5)) l1 6)) l0 7 (tF (sTF (sTF (sTC (sTC (sTC (sTC (sTC x l0 0 (tC x l1 0)) l0 1 (tC (sTC x l0 0 (tC x l1 0)) l1 1)) l0 2 (tC (sTC (sTC x l0 0 (tC x l1 0)) l0 1 (tC (sTC x l0 0 (tC x l1 0)) l1 1)) l1 2)) l0 3 (tC (sTC (sTC (sTC x l0 0 (tC x l1 0)) l0 1 (tC (sTC x l0 0 (tC x l1 0)) l1 1)) l0 2 (tC (sTC (sTC x l0 0 (tC x l1 0)) l0 1 (tC (sTC x l0 0 (tC x l1 0)) l1 1)) l1 2)) l1 3)) l0 4 (tC (sTC (sTC (sTC (sTC x l0 0 (tC x l1 0)) l0 1 (tC (sTC x l0 0 (tC x l1 0)) l1 1)) l0 2 (tC (sTC (sTC x l0 0 (tC x l1 0)) l0 1 (tC (sTC x l0 0 (tC x l1 0)) l1 1)) l1 2)) l0 3 (tC (sTC (sTC (sTC x l0 0 (tC x l1 0)) l0 1 (tC (sTC x l0 0 (tC x l1 0)) l1 1)) l0 2 (tC (sTC (sTC x l0 0 (tC x l1 0)) l0 1 (tC (sTC x l0 0 (tC x l1 0)) l1 1)) l1 2)) l1 3)) l1 4)) l0 5 (tF (sTC (sTC (sTC (sTC (sTC x l0 0 (tC x l1 0)) l0 1 (tC (sTC x l0 0 (tC x l1 0)) l1 1)) l0 2 (tC (sTC (sTC x l0 0 (tC x l1 0)) l0 1 (tC (sTC x l0 0 (tC x l1 0)) l1 1)) l1 2)) l0 3 (tC (sTC (sTC (sTC x l0 0 (tC x l1 0)) l0 1 (tC (sTC x l0 0 (tC x l1 0)) l1 1)) l0 2 (tC (sTC (sTC x l0 0 (tC x l1 0)) l0 1 (tC (sTC x l0 0 (tC x l1 0)) l1 1)) l1 2)) l1 3)) l0 4 (tC (sTC (sTC (sTC (sTC x l0 0 (tC x l1 0)) l0 1 (tC (sTC x l0 0 (tC x l1 0)) l1 1)) l0 2 (tC (sTC (sTC x l0 0 (tC x l1 0)) l0 1 (tC (sTC x l0 0 (tC x l1 0)) l1 1)) l1 2)) l0 3 (tC (sTC (sTC (sTC x l0 0 (tC x l1 0)) l0 1 (tC (sTC x l0 0 (tC x l1 0)) l1 1)) l0 2 (tC (sTC (sTC x l0 0 (tC x l1 0)) l0 1 (tC (sTC x l0 0 (tC x l1 0)) l1 1)) l1 2)) l1 3)) l1 4)) l1 5)) l0 6 (tF (sTF (sTC (sTC (sTC (sTC (sTC x l0 0 (tC x l1 0)) l0 1 (tC (sTC x l0 0 (tC x l1 0)) l1 1)) l0 2 (tC (sTC (sTC x l0 0 (tC x l1 0)) l0 1 (tC (sTC x l0 0 (tC x l1 0)) l1 1)) l1 2)) l0 3 (tC (sTC (sTC (sTC x l0 0 (tC x l1 0)) l0 1 (tC (sTC x l0 0 (tC x l1 0)) l1 1)) l0 2 (tC (sTC (sTC x l0 0 (tC x l1 0)) l0 1 (tC (sTC x l0 0 (tC x l1 0)) l1 1)) l1 2)) l1 3)) l0 4 (tC (sTC (sTC (sTC (sTC x l0 0 (tC x l1 0)) l0 1 (tC (sTC x l0 0 (tC x l1 0)) l1 1)) l0 2 (tC (sTC (sTC x l0 0 (tC x l1 0)) l0 1 (tC (sTC x l0 0 (tC x l1 0)) l1 1)) l1 2)) l0 3 (tC (sTC (sTC (sTC x l0 0 (tC x l1 0)) l0 1 (tC (sTC x l0 0 (tC x l1 0)) l1 1)) l0 2 (tC (sTC (sTC x l0 0 (tC x l1 0)) l0 1 (tC (sTC x l0 0 (tC x l1 0)) l1 1)) l1 2)) l1 3)) l1 4)) l0 5 (tF (sTC (sTC (sTC (sTC (sTC x l0 0 (tC x l1 0)) l0 1 (tC (sTC x l0 0 (tC x l1 0)) l1 1)) l0 2 (tC (sTC (sTC x l0 0 (tC x l1 0)) l0 1 (tC (sTC x l0 0 (tC x l1 0)) l1 1)) l1 2)) l0 3 (tC (sTC (sTC (sTC x l0 0 (tC x l1 0)) l0 1 (tC (sTC x l0 0 (tC x l1 0)) l1 1)) l0 2 (tC (sTC (sTC x l0 0 (tC x l1 0)) l0 1 (tC (sTC x l0 0 (tC x l1 0)) l1 1)) l1 2)) l1 3)) l0 4 (tC (sTC (sTC (sTC (sTC x l0 0 (tC x l1 0)) l0 1 (tC (sTC x l0 0 (tC x l1 0)) l1 1)) l0 2 (tC (sTC (sTC x l0 0 (tC x l1 0)) l0 1 (tC (sTC x l0 0 (tC x l1 0)) l1 1)) l1 2)) l0 3 (tC (sTC (sTC (sTC x l0 0 (tC x l1 0)) l0 1 (tC (sTC x l0 0 (tC x l1 0)) l1 1)) l0 2 (tC (sTC (sTC x l0 0 (tC x l1 0)) l0 1 (tC (sTC x l0 0 (tC x l1 0)) l1 1)) l1 2)) l1 3)) l1 4)) l1 5)) l1 6)) l1 7)) l0 8 (tF (sTF (sTF (sTF (sTC (sTC (sTC (sTC (sTC x l0 0 (tC x l1 0)) l0 1 (tC (sTC x l0 0 (tC x l1 0)) l1 1)) l0 2 (tC (sTC (sTC x l0 0 (tC x l1 0)) l0 1 (tC (sTC x l0 0 (tC x l1 0)) l1 1)) l1 2)) l0 3 (tC (sTC (sTC (sTC x l0 0 (tC x l1 0)) l0 1 (tC (sTC x l0 0 (tC x l1 0)) l1 1)) l0 2 (tC (sTC (sTC x l0 0 (tC x l1 0)) l0 1 (tC (sTC x l0 0 (tC x l1 0)) l1 1)) l1 2)) l1 3)) l0 4 (tC (sTC (sTC (sTC (sTC x l0 0 (tC x l1 0)) l0 1 (tC (sTC x l0 0 (tC x l1 0)) l1 1)) l0 2 (tC (sTC (sTC x l0 0 (tC x l1 0)) l0 1 (tC (sTC x l0 0 (tC x l1 0)) l1 1)) l1 2)) l0 3 (tC (sTC (sTC (sTC x l0 0 (tC x l1 0)) l0 1 (tC (sTC x l0 0 (tC x l1 0)) l1 1)) l0 2 (tC (sTC (sTC x l0 0 (tC x l1 0)) l0 1 (tC (sTC x l0 0 (tC x l1 0)) l1 1)) l1 2)) l1 3)) l1 4)) l0 5 (tF (sTC (sTC (sTC (sTC (sTC x l0 0 (tC x l1 0)) l0 1 (tC (sTC x l0 0 (tC x l1 0)) l1 1)) l0 2 (tC (sTC (sTC x l0 0 (tC x l1 0)) l0 1 (tC (sTC x l0 0 (tC x l1 0)) l1 1)) l1 2)) l0 3 (tC (sTC (sTC (sTC x l0 0 (tC x l1 0)) l0 1 (tC (sTC x l0 0 (tC x l1 0)) l1 1)) l0 2 (tC (sTC (sTC x l0 0 (tC x l1 0)) l0 1 (tC (sTC x l0 0 (tC x l1 0)) l1 1)) l1 2)) l1 3)) l0 4 (tC (sTC (sTC (sTC (sTC x l0 0 (tC x l1 0)) l0 1 (tC (sTC x l0 0 (tC x l1 0)) l1 1)) l0 2 (tC (sTC (sTC x l0 0 (tC x l1 0)) l0 1 (tC (sTC x l0 0 (tC x l1 0)) l1 1)) l1 2)) l0 3 (tC (sTC (sTC (sTC x l0 0 (tC x l1 0)) l0 1 (tC (sTC x l0 0 (tC x l1 0)) l1 1)) l0 2 (tC (sTC (sTC x l0 0 (tC x l1 0)) l0 1 (tC (sTC x l0 0 (tC x l1 0)) l1 1)) l1 2)) l1 3)) l1 4)) l1 5)) l0 6 (tF (sTF (sTC (sTC (sTC (sTC (sTC x l0 0 (tC x l1 0)) l0 1 (tC (sTC x l0 0 (tC x l1 0)) l1 1)) l0 2 (tC (sTC (sTC x l0 0 (tC x l1 0)) l0 1 (tC (sTC x l0 0 (tC x l1 0)) l1 1)) l1 2)) l0 3 (tC (sTC (sTC (sTC x l0 0 (tC x l1 0)) l0 1 (tC (sTC x l0 0 (tC x l1 0)) l1 1)) l0 2 (tC (sTC (sTC x l0 0 (tC x l1 0)) l0 1 (tC (sTC x l0 0 (tC x l1 0)) l1 1)) l1 2)) l1 3)) l0 4 (tC (sTC (sTC (sTC (sTC x l0 0 (tC x l1 0)) l0 1 (tC (sTC x l0 0 (tC x l1 0)) l1 1)) l0 2 (tC (sTC (sTC x l0 0 (tC x l1 0)) l0 1 (tC (sTC x l0 0 (tC x l1 0)) l1 1)) l1 2)) l0 3 (tC (sTC (sTC (sTC x l0 0 (tC x l1 0)) l0 1 (tC (sTC x l0 0 (tC x l1 0)) l1 1)) l0 2 (tC (sTC (sTC x l0 0 (tC x l1 0)) l0 1 (tC (sTC x l0 0 (tC x l1 0)) l1 1)) l1 2)) l1 3)) l1 4)) l0 5 (tF (sTC (sTC (sTC (sTC (sTC x l0 0 (tC x l1 0)) l0 1 (tC (sTC x l0 0 (tC x l1 0)) l1 1)) l0 2 (tC (sTC (sTC x l0 0 (tC x l1 0)) l0 1 (tC (sTC x l0 0 (tC x l1 0)) l1 1)) l1 2)) l0 3 (tC (sTC (sTC (sTC x l0 0 (tC x l1 0)) l0 1 (tC (sTC x l0 0 (tC x l1 0)) l1 1)) l0 2 (tC (sTC (sTC x l0 0 (tC x l1 0)) l0 1 (tC (sTC x l0 0 (tC x l1 0)) l1 1)) l1 2)) l1 3)) l0 4 (tC (sTC (sTC (sTC (sTC x l0 0 (tC x l1 0)) l0 1 (tC (sTC x l0 0 (tC x l1 0)) l1 1)) l0 2 (tC (sTC (sTC x l0 0 (tC x l1 0)) l0 1 (tC (sTC x l0 0 (tC x l1 0)) l1 1)) l1 2)) l0 3 (tC (sTC (sTC (sTC x l0 0 (tC x l1 0)) l0 1 (tC (sTC x l0 0 (tC x l1 0)) l1 1)) l0 2 (tC (sTC (sTC x l0 0 (tC x l1 0)) l0 1 (tC (sTC x l0 0 (tC x l1 0)) l1 1)) l1 2)) l1 3)) l1 4)) l1 5)) l1 6)) l0 7 (tF (sTF (sTF (sTC (sTC (sTC (sTC (sTC x l0 0 (tC x l1 0)) l0 1 (tC (sTC x l0 0 (tC x l1 0)) l1 1)) l0 2 (tC (sTC (sTC x l0 0 (tC x l1 0)) l0 1 (tC (sTC x l0 0 (tC x l1 0)) l1 1)) l1 2)) l0 3 (tC (sTC (sTC (sTC x l0 0 (tC x l1 0)) l0 1 (tC (sTC x l0 0 (tC x l1 0)) l1 1)) l0 2 (tC (sTC (sTC x l0 0 (tC x l1 0)) l0 1 (tC (sTC x l0 0 (tC x l1 0)) l1 1)) l1 2)) l1 3)) l0 4 (tC (sTC (sTC (sTC (sTC x l0 0 (tC x l1 0)) l0 1 (tC (sTC x l0 0 (tC x l1 0)) l1 1)) l0 2 (tC (sTC (sTC x l0 0 (tC x l1 0)) l0 1 (tC (sTC x l0 0 (tC x l1 0)) l1 1)) l1 2)) l0 3 (tC (sTC (sTC (sTC x l0 0 (tC x l1 0)) l0 1 (tC (sTC x l0 0 (tC x l1 0)) l1 1)) l0 2 (tC (sTC (sTC x l0 0 (tC x l1 0)) l0 1 (tC (sTC x l0 0 (tC x l1 0)) l1 1)) l1 2)) l1 3)) l1 4)) l0 5 (tF (sTC (sTC (sTC (sTC (sTC x l0 0 (tC x l1 0)) l0 1 (tC (sTC x l0 0 (tC x l1 0)) l1 1)) l0 2 (tC (sTC (sTC x l0 0 (tC x l1 0)) l0 1 (tC (sTC x l0 0 (tC x l1 0)) l1 1)) l1 2)) l0 3 (tC (sTC (sTC (sTC x l0 0 (tC x l1 0)) l0 1 (tC (sTC x l0 0 (tC x l1 0)) l1 1)) l0 2 (tC (sTC (sTC x l0 0 (tC x l1 0)) l0 1 (tC (sTC x l0 0 (tC x l1 0)) l1 1)) l1 2)) l1 3)) l0 4 (tC (sTC (sTC (sTC (sTC x l0 0 (tC x l1 0)) l0 1 (tC (sTC x l0 0 (tC x l1 0)) l1 1)) l0 2 (tC (sTC (sTC x l0 0 (tC x l1 0)) l0 1 (tC (sTC x l0 0 (tC x l1 0)) l1 1)) l1 2)) l0 3 (tC (sTC (sTC (sTC x l0 0 (tC x l1 0)) l0 1 (tC (sTC x l0 0 (tC x l1 0)) l1 1)) l0 2 (tC (sTC (sTC x l0 0 (tC x l1 0)) l0 1 (tC (sTC x l0 0 (tC x l1 0)) l1 1)) l1 2)) l1 3)) l1 4)) l1 5)) l0 6 (tF (sTF (sTC (sTC (sTC (sTC (sTC x l0 0 (tC x l1 0)) l0 1 (tC (sTC x l0 0 (tC x l1 0)) l1 1)) l0 2 (tC (sTC (sTC x l0 0 (tC x l1 0)) l0 1 (tC (sTC x l0 0 (tC x l1 0)) l1 1)) l1 2)) l0 3 (tC (sTC (sTC (sTC x l0 0 (tC x l1 0)) l0 1 (tC (sTC x l0 0 (tC x l1 0)) l1 1)) l0 2 (tC (sTC (sTC x l0 0 (tC x l1 0)) l0 1 (tC (sTC x l0 0 (tC x l1 0)) l1 1)) l1 2)) l1 3)) l0 4 (tC (sTC (sTC (sTC (sTC x l0 0 (tC x l1 0)) l0 1 (tC (sTC x l0 0 (tC x l1 0)) l1 1)) l0 2 (tC (sTC (sTC x l0 0 (tC x l1 0)) l0 1 (tC (sTC x l0 0 (tC x l1 0)) l1 1)) l1 2)) l0 3 (tC (sTC (sTC (sTC x l0 0 (tC x l1 0)) l0 1 (tC (sTC x l0 0 (tC x l1 0)) l1 1)) l0 2 (tC (sTC (sTC x l0 0 (tC x l1 0)) l0 1 (tC (sTC x l0 0 (tC x l1 0)) l1 1)) l1 2)) l1 3)) l1 4)) l0 5 (tF (sTC (sTC (sTC (sTC (sTC x l0 0 (tC x l1 0)) l0 1 (tC (sTC x l0 0 (tC x l1 0)) l1 1)) l0 2 (tC (sTC (sTC x l0 0 (tC x l1 0)) l0 1 (tC (sTC x l0 0 (tC x l1 0)) l1 1)) l1 2)) l0 3 (tC (sTC (sTC (sTC x l0 0 (tC x l1 0)) l0 1 (tC (sTC x l0 0 (tC x l1 0)) l1 1)) l0 2 (tC (sTC (sTC x l0 0 (tC x l1 0)) l0 1 (tC (sTC x l0 0 (tC x l1 0)) l1 1)) l1 2)) l1 3)) l0 4 (tC (sTC (sTC (sTC (sTC x l0 0 (tC x l1 0)) l0 1 (tC (sTC x l0 0 (tC x l1 0)) l1 1)) l0 2 (tC (sTC (sTC x l0 0 (tC x l1 0)) l0 1 (tC (sTC x l0 0 (tC x l1 0)) l1 1)) l1 2)) l0 3 (tC (sTC (sTC (sTC x l0 0 (tC x l1 0)) l0 1 (tC (sTC x l0 0 (tC x l1 0)) l1 1)) l0 2 (tC (sTC (sTC x l0 0 (tC x l1 0)) l0 1 (tC (sTC x l0 0 (tC x l1 0)) l1 1)) l1 2)) l1 3)) l1 4)) l1 5)) l1 6)) l1 7)) l1 8)) l1 9)) l1 10)) l1 11))
theorem tmC_become (l : Launch) (N : Nat) {w : tO} {A : Nat → Prop} (B : Nat × Nat) {l0 : Nat} (hi_l0 : l0 < wn w) {l1 : Nat} (hi_l1 : l1 < wn w) : ∀ (x : TS) (xr : TS), fC_become N B x l0 l1 = some xr → tMet l yX2_become (ws_ yX2_become cX2_become 2 none) frC_become loC_become [.ref (wG w l0 5), .ref (wG w l1 5)] w A B x none xr := by
  intro x  xr hf
  refine t_start (cc := cX2_become) (own := RX2) (by decide +kernel) rfl (Nat.le_of_ble_eq_true rfl) rfl ?_
  intro p e s m args below meth c ls H locs C hmn hI hl
  have hx := C.1.1
  have hb := C.1.2.1
  have hown := C.1.2.2.2.1
  have hts := C.1.2.2.2.2.1
  have hE := C.2.2
  rw [fC_become] at hf
  refine lv_aload_n hx hb dX2_become_0 rfl (lv_at hl 1 rfl) ?_
  refine tgX2_15 C hI hi_l1 dX2_become_1 ?_
  refine lv_aload_n hx hb dX2_become_4 rfl (lv_at hl 0 rfl) ?_
  refine tgX2_15 C hI hi_l0 dX2_become_5 ?_
  refine tc_copC (r0 := 0) (r1 := 0) C hI hi_l1 hi_l0 (by decide) (by decide) ⟨Nat.le_of_ble_eq_true rfl, Nat.le_of_ble_eq_true rfl⟩ hl.1 (Nat.le_of_ble_eq_true rfl) dX2_become_8 (fun H locs hI => ?_)
  refine lv_aload_n hx hb dX2_become_11 rfl (lv_at hl 1 rfl) ?_
  refine tgX2_19 C hI hi_l1 dX2_become_12 ?_
  refine lv_aload_n hx hb dX2_become_15 rfl (lv_at hl 0 rfl) ?_
  refine tgX2_19 C hI hi_l0 dX2_become_16 ?_
  refine tc_copC (r0 := 1) (r1 := 1) C hI hi_l1 hi_l0 (by decide) (by decide) ⟨Nat.le_of_ble_eq_true rfl, Nat.le_of_ble_eq_true rfl⟩ hl.1 (Nat.le_of_ble_eq_true rfl) dX2_become_19 (fun H locs hI => ?_)
  refine lv_aload_n hx hb dX2_become_22 rfl (lv_at hl 1 rfl) ?_
  refine tgX2_22 C hI hi_l1 dX2_become_23 ?_
  refine lv_aload_n hx hb dX2_become_26 rfl (lv_at hl 0 rfl) ?_
  refine tgX2_22 C hI hi_l0 dX2_become_27 ?_
  refine tc_copC (r0 := 2) (r1 := 2) C hI hi_l1 hi_l0 (by decide) (by decide) ⟨Nat.le_of_ble_eq_true rfl, Nat.le_of_ble_eq_true rfl⟩ hl.1 (Nat.le_of_ble_eq_true rfl) dX2_become_30 (fun H locs hI => ?_)
  refine lv_aload_n hx hb dX2_become_33 rfl (lv_at hl 1 rfl) ?_
  refine tgX2_25 C hI hi_l1 dX2_become_34 ?_
  refine lv_aload_n hx hb dX2_become_37 rfl (lv_at hl 0 rfl) ?_
  refine tgX2_25 C hI hi_l0 dX2_become_38 ?_
  refine tc_copC (r0 := 3) (r1 := 3) C hI hi_l1 hi_l0 (by decide) (by decide) ⟨Nat.le_of_ble_eq_true rfl, Nat.le_of_ble_eq_true rfl⟩ hl.1 (Nat.le_of_ble_eq_true rfl) dX2_become_41 (fun H locs hI => ?_)
  refine lv_aload_n hx hb dX2_become_44 rfl (lv_at hl 1 rfl) ?_
  refine tgX2_28 C hI hi_l1 dX2_become_45 ?_
  refine lv_aload_n hx hb dX2_become_48 rfl (lv_at hl 0 rfl) ?_
  refine tgX2_28 C hI hi_l0 dX2_become_49 ?_
  refine tc_copC (r0 := 4) (r1 := 4) C hI hi_l1 hi_l0 (by decide) (by decide) ⟨Nat.le_of_ble_eq_true rfl, Nat.le_of_ble_eq_true rfl⟩ hl.1 (Nat.le_of_ble_eq_true rfl) dX2_become_52 (fun H locs hI => ?_)
  refine lv_aload_n hx hb dX2_become_55 rfl (lv_at hl 0 rfl) ?_
  refine lv_aload_n hx hb dX2_become_56 rfl (lv_at hl 1 rfl) ?_
  refine tgX2_35 C hI hi_l1 dX2_become_57 ?_
  refine tpX2_35 C hI hi_l0 dX2_become_60 (fun H locs hI => ?_)
  refine lv_aload_n hx hb dX2_become_63 rfl (lv_at hl 0 rfl) ?_
  refine lv_aload_n hx hb dX2_become_64 rfl (lv_at hl 1 rfl) ?_
  refine tgX2_39 C hI hi_l1 dX2_become_65 ?_
  refine tpX2_39 C hI hi_l0 dX2_become_68 (fun H locs hI => ?_)
  refine lv_aload_n hx hb dX2_become_71 rfl (lv_at hl 0 rfl) ?_
  refine lv_aload_n hx hb dX2_become_72 rfl (lv_at hl 1 rfl) ?_
  refine tgX2_42 C hI hi_l1 dX2_become_73 ?_
  refine tpX2_42 C hI hi_l0 dX2_become_76 (fun H locs hI => ?_)
  refine lv_aload_n hx hb dX2_become_79 rfl (lv_at hl 0 rfl) ?_
  refine lv_aload_n hx hb dX2_become_80 rfl (lv_at hl 1 rfl) ?_
  refine tgX2_45 C hI hi_l1 dX2_become_81 ?_
  refine tpX2_45 C hI hi_l0 dX2_become_84 (fun H locs hI => ?_)
  refine lv_aload_n hx hb dX2_become_87 rfl (lv_at hl 0 rfl) ?_
  refine lv_aload_n hx hb dX2_become_88 rfl (lv_at hl 1 rfl) ?_
  refine tgX2_48 C hI hi_l1 dX2_become_89 ?_
  refine tpX2_48 C hI hi_l0 dX2_become_92 (fun H locs hI => ?_)
  refine lv_aload_n hx hb dX2_become_95 rfl (lv_at hl 0 rfl) ?_
  refine lv_aload_n hx hb dX2_become_96 rfl (lv_at hl 1 rfl) ?_
  refine tgX2_51 C hI hi_l1 dX2_become_97 ?_
  refine tpX2_51 C hI hi_l0 dX2_become_100 (fun H locs hI => ?_)
  refine lv_aload_n hx hb dX2_become_103 rfl (lv_at hl 0 rfl) ?_
  refine lv_aload_n hx hb dX2_become_104 rfl (lv_at hl 1 rfl) ?_
  refine tgX2_54 C hI hi_l1 dX2_become_105 ?_
  refine tpX2_54 C hI hi_l0 dX2_become_108 (fun H locs hI => ?_)
  exact t_vret C hI hf dX2_become_111
/-! TwelveChain.state(I)I -/
abbrev frT_state : Nat := 0
abbrev loT_state : Nat := 0
def fT_state (N : Nat) (B : Nat × Nat) (x : TS) (l1 : Int32) : Option (Int32 × TS) :=
  some (tF x 0 10, sTS (sTF x 0 10 l1) 27 0)
theorem tmT_state (l : Launch) (N : Nat) {w : tO} {A : Nat → Prop} (B : Nat × Nat) : ∀ (x : TS) (l1 : Int32) (r : Int32) (xr : TS), fT_state N B x l1 = some (r, xr) → tMet l yX0_state (ws_ yX0_state cX0_state 3 (some .int)) frT_state loT_state [.ref (wa w 37), .int l1] w A B x (some (.int r)) xr := by
  intro x l1 r xr hf
  refine t_start (cc := cX0_state) (own := RX0) (by decide +kernel) rfl (Nat.le_of_ble_eq_true rfl) rfl ?_
  intro p e s m args below meth c ls H locs C hmn hI hl
  have hx := C.1.1
  have hb := C.1.2.1
  have hown := C.1.2.2.2.1
  have hts := C.1.2.2.2.2.1
  have hE := C.2.2
  rw [fT_state] at hf
  refine lv_aload_n hx hb dX0_state_0 rfl (lv_at hl 0 rfl) ?_
  refine tgX0_152 C hI dX0_state_1 ?_
  refine tgX0_401 C hI (tI.l3 hI (by decide)) dX0_state_4 ?_
  refine lv_istore_n (lv' := [(2, .int (tF x 0 10)), (0, .ref (wa w 37)), (1, .int l1)]) hx hb dX0_state_7 rfl hl (by decide) rfl (fun ls hl => ?_)
  refine lv_aload_n hx hb dX0_state_8 rfl (lv_at hl 1 rfl) ?_
  refine tgX0_152 C hI dX0_state_9 ?_
  refine lv_iload_n hx hb dX0_state_12 rfl (lv_at hl 2 rfl) ?_
  refine tpX0_401 C hI (tI.l3 hI (by decide)) dX0_state_13 (fun H locs hI => ?_)
  refine lv_aload_n hx hb dX0_state_16 rfl (lv_at hl 1 rfl) ?_
  refine lv_iconst (v := 0) hx hb dX0_state_17 (by decide) ?_
  refine tpX0_377 C hI dX0_state_18 (fun H locs hI => ?_)
  refine lv_iload_n hx hb dX0_state_21 rfl (lv_at hl 0 rfl) ?_
  exact t_iret C hI hf dX0_state_22
/-! TwelveChain.link(IIII)I -/
abbrev frT_link : Nat := 1
abbrev loT_link : Nat := 22
def fT_link (N : Nat) (B : Nat × Nat) (x : TS) (l1 : Int32) (l2 : Int32) (l3 : Int32) (l4 : Int32) : Option (Int32 × TS) :=
  (fT_isIn N l1 1 999).bind fun v1 =>
  if v1 = 0 then
    some ((-1), x)
  else
    (fT_isIn N l2 (-9999) 9999).bind fun v2 =>
    if v2 = 0 then
      some ((-1), x)
    else
      (fT_isIn N l3 (-999) 999).bind fun v3 =>
      if v3 = 0 then
        some ((-1), x)
      else
        (fT_isIn N l4 0 9).bind fun v4 =>
        if v4 = 0 then
          some ((-1), x)
        else
          if (tS x 21) = 12 then
            some ((-1), x)
          else
            (wrC x 0 0 (tS x 21) l1).bind fun x5 =>
            (wrC x5 0 1 (tS x 21) l2).bind fun x6 =>
            (wrC x6 0 2 (tS x 21) l3).bind fun x7 =>
            (wrC x7 0 3 (tS x 21) l4).bind fun x8 =>
            (wrC x8 0 4 (tS x 21) (-1)).bind fun x9 =>
            some (tS x 21, sTS (sTS (sTF (sTF (sTF x9 0 5 ((tF x9 0 5) &&& ((1 <<< ((tS x 21) &&& 31)) - 1))) 0 6 ((tF (sTF x9 0 5 ((tF x9 0 5) &&& ((1 <<< ((tS x 21) &&& 31)) - 1))) 0 6) &&& ((1 <<< ((tS x 21) &&& 31)) - 1))) 0 7 ((tF (sTF (sTF x9 0 5 ((tF x9 0 5) &&& ((1 <<< ((tS x 21) &&& 31)) - 1))) 0 6 ((tF (sTF x9 0 5 ((tF x9 0 5) &&& ((1 <<< ((tS x 21) &&& 31)) - 1))) 0 6) &&& ((1 <<< ((tS x 21) &&& 31)) - 1))) 0 7) &&& ((1 <<< ((tS x 21) &&& 31)) - 1))) 21 ((tS (sTF (sTF (sTF x9 0 5 ((tF x9 0 5) &&& ((1 <<< ((tS x 21) &&& 31)) - 1))) 0 6 ((tF (sTF x9 0 5 ((tF x9 0 5) &&& ((1 <<< ((tS x 21) &&& 31)) - 1))) 0 6) &&& ((1 <<< ((tS x 21) &&& 31)) - 1))) 0 7 ((tF (sTF (sTF x9 0 5 ((tF x9 0 5) &&& ((1 <<< ((tS x 21) &&& 31)) - 1))) 0 6 ((tF (sTF x9 0 5 ((tF x9 0 5) &&& ((1 <<< ((tS x 21) &&& 31)) - 1))) 0 6) &&& ((1 <<< ((tS x 21) &&& 31)) - 1))) 0 7) &&& ((1 <<< ((tS x 21) &&& 31)) - 1))) 21) + 1)) 27 0)
theorem tmT_link (l : Launch) (N : Nat) {w : tO} {A : Nat → Prop} (B : Nat × Nat) : ∀ (x : TS) (l1 : Int32) (l2 : Int32) (l3 : Int32) (l4 : Int32) (r : Int32) (xr : TS), fT_link N B x l1 l2 l3 l4 = some (r, xr) → tMet l yX0_link (ws_ yX0_link cX0_link 7 (some .int)) frT_link loT_link [.ref (wa w 37), .int l1, .int l2, .int l3, .int l4] w A B x (some (.int r)) xr := by
  intro x l1 l2 l3 l4 r xr hf
  refine t_start (cc := cX0_link) (own := RX0) (by decide +kernel) rfl (Nat.le_of_ble_eq_true rfl) rfl ?_
  intro p e s m args below meth c ls H locs C hmn hI hl
  have hx := C.1.1
  have hb := C.1.2.1
  have hown := C.1.2.2.2.1
  have hts := C.1.2.2.2.2.1
  have hE := C.2.2
  rw [fT_link] at hf
  refine lv_iload_n hx hb dX0_link_0 rfl (lv_at hl 1 rfl) ?_
  refine lv_iconst (v := 1) hx hb dX0_link_1 (by decide) ?_
  refine lv_sipush (v := 999) hx hb dX0_link_2 (by decide) ?_
  refine g_calliS (rest := []) C.1 hf (smT_isIn l N _ _ _) cqT_T_isIn ⟨rfl, rfl⟩ ⟨Nat.le_of_ble_eq_true rfl, Nat.le_of_ble_eq_true rfl⟩ rfl hl.1 rfl (Nat.le_of_ble_eq_true rfl) (t_room hI) dX0_link_5 (fun v1 hf => ?_)
  refine b_ifeq (tgt := 57) hx hb hf dX0_link_8 (by decide) (fun hf => ?_) (fun hf => ?_)
  · refine lv_iconst (v := (-1)) hx hb dX0_link_57 (by decide) ?_
    exact t_iret C hI hf dX0_link_58
  · refine lv_iload_n hx hb dX0_link_11 rfl (lv_at hl 2 rfl) ?_
    refine lv_sipush (v := (-9999)) hx hb dX0_link_12 (by decide) ?_
    refine lv_sipush (v := 9999) hx hb dX0_link_15 (by decide) ?_
    refine g_calliS (rest := []) C.1 hf (smT_isIn l N _ _ _) cqT_T_isIn ⟨rfl, rfl⟩ ⟨Nat.le_of_ble_eq_true rfl, Nat.le_of_ble_eq_true rfl⟩ rfl hl.1 rfl (Nat.le_of_ble_eq_true rfl) (t_room hI) dX0_link_18 (fun v2 hf => ?_)
    refine b_ifeq (tgt := 57) hx hb hf dX0_link_21 (by decide) (fun hf => ?_) (fun hf => ?_)
    · refine lv_iconst (v := (-1)) hx hb dX0_link_57 (by decide) ?_
      exact t_iret C hI hf dX0_link_58
    · refine lv_iload_n hx hb dX0_link_24 rfl (lv_at hl 3 rfl) ?_
      refine lv_sipush (v := (-999)) hx hb dX0_link_25 (by decide) ?_
      refine lv_sipush (v := 999) hx hb dX0_link_28 (by decide) ?_
      refine g_calliS (rest := []) C.1 hf (smT_isIn l N _ _ _) cqT_T_isIn ⟨rfl, rfl⟩ ⟨Nat.le_of_ble_eq_true rfl, Nat.le_of_ble_eq_true rfl⟩ rfl hl.1 rfl (Nat.le_of_ble_eq_true rfl) (t_room hI) dX0_link_31 (fun v3 hf => ?_)
      refine b_ifeq (tgt := 57) hx hb hf dX0_link_34 (by decide) (fun hf => ?_) (fun hf => ?_)
      · refine lv_iconst (v := (-1)) hx hb dX0_link_57 (by decide) ?_
        exact t_iret C hI hf dX0_link_58
      · refine lv_iload hx hb dX0_link_37 (lv_at hl 4 rfl) ?_
        refine lv_iconst (v := 0) hx hb dX0_link_39 (by decide) ?_
        refine lv_bipush (v := 9) hx hb dX0_link_40 (by decide) ?_
        refine g_calliS (rest := []) C.1 hf (smT_isIn l N _ _ _) cqT_T_isIn ⟨rfl, rfl⟩ ⟨Nat.le_of_ble_eq_true rfl, Nat.le_of_ble_eq_true rfl⟩ rfl hl.1 rfl (Nat.le_of_ble_eq_true rfl) (t_room hI) dX0_link_42 (fun v4 hf => ?_)
        refine b_ifeq (tgt := 57) hx hb hf dX0_link_45 (by decide) (fun hf => ?_) (fun hf => ?_)
        · refine lv_iconst (v := (-1)) hx hb dX0_link_57 (by decide) ?_
          exact t_iret C hI hf dX0_link_58
        · refine lv_aload_n hx hb dX0_link_48 rfl (lv_at hl 0 rfl) ?_
          refine tgX0_346 C hI dX0_link_49 ?_
          refine lv_bipush (v := 12) hx hb dX0_link_52 (by decide) ?_
          refine b_icne (tgt := 59) hx hb hf dX0_link_54 (by decide) (fun hf => ?_) (fun hf => ?_)
          · refine lv_aload_n hx hb dX0_link_59 rfl (lv_at hl 0 rfl) ?_
            refine tgX0_346 C hI dX0_link_60 ?_
            refine lv_istore (lv' := [(5, .int (tS x 21)), (0, .ref (wa w 37)), (1, .int l1), (2, .int l2), (3, .int l3), (4, .int l4)]) hx hb dX0_link_63 hl (by decide) rfl (fun ls hl => ?_)
            refine lv_aload_n hx hb dX0_link_65 rfl (lv_at hl 1 rfl) ?_
            refine tgX0_152 C hI dX0_link_66 ?_
            refine tgX0_404 C hI (tI.l3 hI (by decide)) dX0_link_69 ?_
            refine lv_iload hx hb dX0_link_72 (lv_at hl 0 rfl) ?_
            refine lv_iload_n hx hb dX0_link_74 rfl (lv_at hl 2 rfl) ?_
            refine t_cast C hI (tI.l3 hI (by decide)) (by decide) hf dX0_link_75 (fun x5 H locs hI hf => ?_)
            refine lv_aload_n hx hb dX0_link_76 rfl (lv_at hl 1 rfl) ?_
            refine tgX0_152 C hI dX0_link_77 ?_
            refine tgX0_406 C hI (tI.l3 hI (by decide)) dX0_link_80 ?_
            refine lv_iload hx hb dX0_link_83 (lv_at hl 0 rfl) ?_
            refine lv_iload_n hx hb dX0_link_85 rfl (lv_at hl 3 rfl) ?_
            refine t_cast C hI (tI.l3 hI (by decide)) (by decide) hf dX0_link_86 (fun x6 H locs hI hf => ?_)
            refine lv_aload_n hx hb dX0_link_87 rfl (lv_at hl 1 rfl) ?_
            refine tgX0_152 C hI dX0_link_88 ?_
            refine tgX0_408 C hI (tI.l3 hI (by decide)) dX0_link_91 ?_
            refine lv_iload hx hb dX0_link_94 (lv_at hl 0 rfl) ?_
            refine lv_iload_n hx hb dX0_link_96 rfl (lv_at hl 4 rfl) ?_
            refine t_cast C hI (tI.l3 hI (by decide)) (by decide) hf dX0_link_97 (fun x7 H locs hI hf => ?_)
            refine lv_aload_n hx hb dX0_link_98 rfl (lv_at hl 1 rfl) ?_
            refine tgX0_152 C hI dX0_link_99 ?_
            refine tgX0_410 C hI (tI.l3 hI (by decide)) dX0_link_102 ?_
            refine lv_iload hx hb dX0_link_105 (lv_at hl 0 rfl) ?_
            refine lv_iload hx hb dX0_link_107 (lv_at hl 5 rfl) ?_
            refine t_cast C hI (tI.l3 hI (by decide)) (by decide) hf dX0_link_109 (fun x8 H locs hI hf => ?_)
            refine lv_aload_n hx hb dX0_link_110 rfl (lv_at hl 1 rfl) ?_
            refine tgX0_152 C hI dX0_link_111 ?_
            refine tgX0_412 C hI (tI.l3 hI (by decide)) dX0_link_114 ?_
            refine lv_iload hx hb dX0_link_117 (lv_at hl 0 rfl) ?_
            refine lv_iconst (v := (-1)) hx hb dX0_link_119 (by decide) ?_
            refine t_cast C hI (tI.l3 hI (by decide)) (by decide) hf dX0_link_120 (fun x9 H locs hI hf => ?_)
            refine lv_iconst (v := 1) hx hb dX0_link_121 (by decide) ?_
            refine lv_iload hx hb dX0_link_122 (lv_at hl 0 rfl) ?_
            refine lv_ishl hx hb dX0_link_124 ?_
            refine lv_iconst (v := 1) hx hb dX0_link_125 (by decide) ?_
            refine lv_isub hx hb dX0_link_126 ?_
            refine lv_istore (lv' := [(6, .int ((1 <<< ((tS x 21) &&& 31)) - 1)), (5, .int (tS x 21)), (0, .ref (wa w 37)), (1, .int l1), (2, .int l2), (3, .int l3), (4, .int l4)]) hx hb dX0_link_127 hl (by decide) rfl (fun ls hl => ?_)
            refine lv_aload_n hx hb dX0_link_129 rfl (lv_at hl 2 rfl) ?_
            refine tgX0_152 C hI dX0_link_130 ?_
            refine lv_dup hx hb dX0_link_133 rfl ?_
            refine tgX0_415 C hI (tI.l3 hI (by decide)) dX0_link_134 ?_
            refine lv_iload hx hb dX0_link_137 (lv_at hl 0 rfl) ?_
            refine lv_iand hx hb dX0_link_139 ?_
            refine tpX0_415 C hI (tI.l3 hI (by decide)) dX0_link_140 (fun H locs hI => ?_)
            refine lv_aload_n hx hb dX0_link_143 rfl (lv_at hl 2 rfl) ?_
            refine tgX0_152 C hI dX0_link_144 ?_
            refine lv_dup hx hb dX0_link_147 rfl ?_
            refine tgX0_417 C hI (tI.l3 hI (by decide)) dX0_link_148 ?_
            refine lv_iload hx hb dX0_link_151 (lv_at hl 0 rfl) ?_
            refine lv_iand hx hb dX0_link_153 ?_
            refine tpX0_417 C hI (tI.l3 hI (by decide)) dX0_link_154 (fun H locs hI => ?_)
            refine lv_aload_n hx hb dX0_link_157 rfl (lv_at hl 2 rfl) ?_
            refine tgX0_152 C hI dX0_link_158 ?_
            refine lv_dup hx hb dX0_link_161 rfl ?_
            refine tgX0_420 C hI (tI.l3 hI (by decide)) dX0_link_162 ?_
            refine lv_iload hx hb dX0_link_165 (lv_at hl 0 rfl) ?_
            refine lv_iand hx hb dX0_link_167 ?_
            refine tpX0_420 C hI (tI.l3 hI (by decide)) dX0_link_168 (fun H locs hI => ?_)
            refine lv_aload_n hx hb dX0_link_171 rfl (lv_at hl 2 rfl) ?_
            refine lv_dup hx hb dX0_link_172 rfl ?_
            refine tgX0_346 C hI dX0_link_173 ?_
            refine lv_iconst (v := 1) hx hb dX0_link_176 (by decide) ?_
            refine lv_iadd hx hb dX0_link_177 ?_
            refine tpX0_346 C hI dX0_link_178 (fun H locs hI => ?_)
            refine lv_aload_n hx hb dX0_link_181 rfl (lv_at hl 2 rfl) ?_
            refine lv_iconst (v := 0) hx hb dX0_link_182 (by decide) ?_
            refine tpX0_377 C hI dX0_link_183 (fun H locs hI => ?_)
            refine lv_iload hx hb dX0_link_186 (lv_at hl 1 rfl) ?_
            exact t_iret C hI hf dX0_link_188
          · refine lv_iconst (v := (-1)) hx hb dX0_link_57 (by decide) ?_
            exact t_iret C hI hf dX0_link_58
/-! TwelveChain.isLink(I)Z -/
abbrev frT_isLink : Nat := 1
abbrev loT_isLink : Nat := 22
def fT_isLink (N : Nat) (B : Nat × Nat) (x : TS) (l1 : Int32) : Option (Int32 × TS) :=
  (fT_isIn N l1 0 ((tS x 21) - 1)).bind fun v1 =>
  some (zb v1, x)
theorem tmT_isLink (l : Launch) (N : Nat) {w : tO} {A : Nat → Prop} (B : Nat × Nat) : ∀ (x : TS) (l1 : Int32) (r : Int32) (xr : TS), fT_isLink N B x l1 = some (r, xr) → tMet l yX0_isLink (ws_ yX0_isLink cX0_isLink 2 (some .boolean)) frT_isLink loT_isLink [.ref (wa w 37), .int l1] w A B x (some (.int r)) xr := by
  intro x l1 r xr hf
  refine t_start (cc := cX0_isLink) (own := RX0) (by decide +kernel) rfl (Nat.le_of_ble_eq_true rfl) rfl ?_
  intro p e s m args below meth c ls H locs C hmn hI hl
  have hx := C.1.1
  have hb := C.1.2.1
  have hown := C.1.2.2.2.1
  have hts := C.1.2.2.2.2.1
  have hE := C.2.2
  rw [fT_isLink] at hf
  refine lv_iload_n hx hb dX0_isLink_0 rfl (lv_at hl 1 rfl) ?_
  refine lv_iconst (v := 0) hx hb dX0_isLink_1 (by decide) ?_
  refine lv_aload_n hx hb dX0_isLink_2 rfl (lv_at hl 0 rfl) ?_
  refine tgX0_346 C hI dX0_isLink_3 ?_
  refine lv_iconst (v := 1) hx hb dX0_isLink_6 (by decide) ?_
  refine lv_isub hx hb dX0_isLink_7 ?_
  refine g_calliS (rest := []) C.1 hf (smT_isIn l N _ _ _) cqT_T_isIn ⟨rfl, rfl⟩ ⟨Nat.le_of_ble_eq_true rfl, Nat.le_of_ble_eq_true rfl⟩ rfl hl.1 rfl (Nat.le_of_ble_eq_true rfl) (t_room hI) dX0_isLink_8 (fun v1 hf => ?_)
  exact t_zret C hI hf dX0_isLink_11
/-! TwelveChain.set(III)Z -/
abbrev frT_set : Nat := 2
abbrev loT_set : Nat := 43
def fT_set (N : Nat) (B : Nat × Nat) (x : TS) (l1 : Int32) (l2 : Int32) (l3 : Int32) : Option (Int32 × TS) :=
  b2 (fT_isLink N B x l2) fun v2 x1 =>
  if v2 = 0 then
    some (0, x1)
  else
    (fT_isWithin N l1 l3).bind fun v3 =>
    if v3 = 0 then
      some (0, x1)
    else
      if l1 = 4 then
        if l3 = 1 then
          some (1, sTS (sTF x1 0 5 ((tF x1 0 5) ||| (1 <<< (l2 &&& 31)))) 27 0)
        else
          some (1, sTS (sTF x1 0 5 ((tF x1 0 5) &&& ((1 <<< (l2 &&& 31)) ^^^ (-1)))) 27 0)
      else
        if l1 = 0 then
          (wrC x1 0 0 l2 l3).bind fun x7 =>
          some (1, sTS x7 27 0)
        else
          if l1 = 1 then
            (wrC x1 0 1 l2 l3).bind fun x6 =>
            some (1, sTS x6 27 0)
          else
            if l1 = 2 then
              (wrC x1 0 2 l2 l3).bind fun x5 =>
              some (1, sTS x5 27 0)
            else
              (wrC x1 0 3 l2 l3).bind fun x4 =>
              some (1, sTS x4 27 0)
theorem tmT_set (l : Launch) (N : Nat) {w : tO} {A : Nat → Prop} (B : Nat × Nat) : ∀ (x : TS) (l1 : Int32) (l2 : Int32) (l3 : Int32) (r : Int32) (xr : TS), fT_set N B x l1 l2 l3 = some (r, xr) → tMet l yX0_set (ws_ yX0_set cX0_set 4 (some .boolean)) frT_set loT_set [.ref (wa w 37), .int l1, .int l2, .int l3] w A B x (some (.int r)) xr := by
  intro x l1 l2 l3 r xr hf
  refine t_start (cc := cX0_set) (own := RX0) (by decide +kernel) rfl (Nat.le_of_ble_eq_true rfl) rfl ?_
  intro p e s m args below meth c ls H locs C hmn hI hl
  have hx := C.1.1
  have hb := C.1.2.1
  have hown := C.1.2.2.2.1
  have hts := C.1.2.2.2.2.1
  have hE := C.2.2
  rw [fT_set] at hf
  refine lv_aload_n hx hb dX0_set_0 rfl (lv_at hl 0 rfl) ?_
  refine lv_iload_n hx hb dX0_set_1 rfl (lv_at hl 2 rfl) ?_
  refine t_cVi (rest := []) C hI hf (tmT_isLink l N B _ _) (rv_main C hI) cqX0_T_isLink ⟨Nat.le_of_ble_eq_true rfl, Nat.le_of_ble_eq_true rfl⟩ rfl hl.1 rfl (Nat.le_of_ble_eq_true rfl) dX0_set_2 (fun v2 x1 H locs hI hf => ?_)
  refine b_ifeq (tgt := 16) hx hb hf dX0_set_5 (by decide) (fun hf => ?_) (fun hf => ?_)
  · refine lv_iconst (v := 0) hx hb dX0_set_16 (by decide) ?_
    exact t_zretc C hI zb_0 hf dX0_set_17
  · refine lv_iload_n hx hb dX0_set_8 rfl (lv_at hl 1 rfl) ?_
    refine lv_iload_n hx hb dX0_set_9 rfl (lv_at hl 3 rfl) ?_
    refine g_calliS (rest := []) C.1 hf (smT_isWithin l N _ _) cqT_T_isWithin ⟨rfl, rfl⟩ ⟨Nat.le_of_ble_eq_true rfl, Nat.le_of_ble_eq_true rfl⟩ rfl hl.1 rfl (Nat.le_of_ble_eq_true rfl) (t_room hI) dX0_set_10 (fun v3 hf => ?_)
    refine b_ifne (tgt := 18) hx hb hf dX0_set_13 (by decide) (fun hf => ?_) (fun hf => ?_)
    · refine lv_iload_n hx hb dX0_set_18 rfl (lv_at hl 1 rfl) ?_
      refine lv_iconst (v := 4) hx hb dX0_set_19 (by decide) ?_
      refine b_icne (tgt := 65) hx hb hf dX0_set_20 (by decide) (fun hf => ?_) (fun hf => ?_)
      · refine lv_iload_n hx hb dX0_set_65 rfl (lv_at hl 1 rfl) ?_
        refine b_ifne (tgt := 79) hx hb hf dX0_set_66 (by decide) (fun hf => ?_) (fun hf => ?_)
        · refine lv_iload_n hx hb dX0_set_79 rfl (lv_at hl 1 rfl) ?_
          refine lv_iconst (v := 1) hx hb dX0_set_80 (by decide) ?_
          refine b_icne (tgt := 94) hx hb hf dX0_set_81 (by decide) (fun hf => ?_) (fun hf => ?_)
          · refine lv_iload_n hx hb dX0_set_94 rfl (lv_at hl 1 rfl) ?_
            refine lv_iconst (v := 2) hx hb dX0_set_95 (by decide) ?_
            refine b_icne (tgt := 109) hx hb hf dX0_set_96 (by decide) (fun hf => ?_) (fun hf => ?_)
            · refine lv_aload_n hx hb dX0_set_109 rfl (lv_at hl 0 rfl) ?_
              refine tgX0_152 C hI dX0_set_110 ?_
              refine tgX0_410 C hI (tI.l3 hI (by decide)) dX0_set_113 ?_
              refine lv_iload_n hx hb dX0_set_116 rfl (lv_at hl 2 rfl) ?_
              refine lv_iload_n hx hb dX0_set_117 rfl (lv_at hl 3 rfl) ?_
              refine t_cast C hI (tI.l3 hI (by decide)) (by decide) hf dX0_set_118 (fun x4 H locs hI hf => ?_)
              refine lv_aload_n hx hb dX0_set_119 rfl (lv_at hl 0 rfl) ?_
              refine lv_iconst (v := 0) hx hb dX0_set_120 (by decide) ?_
              refine tpX0_377 C hI dX0_set_121 (fun H locs hI => ?_)
              refine lv_iconst (v := 1) hx hb dX0_set_124 (by decide) ?_
              exact t_zretc C hI zb_1 hf dX0_set_125
            · refine lv_aload_n hx hb dX0_set_99 rfl (lv_at hl 0 rfl) ?_
              refine tgX0_152 C hI dX0_set_100 ?_
              refine tgX0_408 C hI (tI.l3 hI (by decide)) dX0_set_103 ?_
              refine lv_goto (tgt := 116) hx hb dX0_set_106 (by decide) ?_
              refine lv_iload_n hx hb dX0_set_116 rfl (lv_at hl 2 rfl) ?_
              refine lv_iload_n hx hb dX0_set_117 rfl (lv_at hl 3 rfl) ?_
              refine t_cast C hI (tI.l3 hI (by decide)) (by decide) hf dX0_set_118 (fun x5 H locs hI hf => ?_)
              refine lv_aload_n hx hb dX0_set_119 rfl (lv_at hl 0 rfl) ?_
              refine lv_iconst (v := 0) hx hb dX0_set_120 (by decide) ?_
              refine tpX0_377 C hI dX0_set_121 (fun H locs hI => ?_)
              refine lv_iconst (v := 1) hx hb dX0_set_124 (by decide) ?_
              exact t_zretc C hI zb_1 hf dX0_set_125
          · refine lv_aload_n hx hb dX0_set_84 rfl (lv_at hl 0 rfl) ?_
            refine tgX0_152 C hI dX0_set_85 ?_
            refine tgX0_406 C hI (tI.l3 hI (by decide)) dX0_set_88 ?_
            refine lv_goto (tgt := 116) hx hb dX0_set_91 (by decide) ?_
            refine lv_iload_n hx hb dX0_set_116 rfl (lv_at hl 2 rfl) ?_
            refine lv_iload_n hx hb dX0_set_117 rfl (lv_at hl 3 rfl) ?_
            refine t_cast C hI (tI.l3 hI (by decide)) (by decide) hf dX0_set_118 (fun x6 H locs hI hf => ?_)
            refine lv_aload_n hx hb dX0_set_119 rfl (lv_at hl 0 rfl) ?_
            refine lv_iconst (v := 0) hx hb dX0_set_120 (by decide) ?_
            refine tpX0_377 C hI dX0_set_121 (fun H locs hI => ?_)
            refine lv_iconst (v := 1) hx hb dX0_set_124 (by decide) ?_
            exact t_zretc C hI zb_1 hf dX0_set_125
        · refine lv_aload_n hx hb dX0_set_69 rfl (lv_at hl 0 rfl) ?_
          refine tgX0_152 C hI dX0_set_70 ?_
          refine tgX0_404 C hI (tI.l3 hI (by decide)) dX0_set_73 ?_
          refine lv_goto (tgt := 116) hx hb dX0_set_76 (by decide) ?_
          refine lv_iload_n hx hb dX0_set_116 rfl (lv_at hl 2 rfl) ?_
          refine lv_iload_n hx hb dX0_set_117 rfl (lv_at hl 3 rfl) ?_
          refine t_cast C hI (tI.l3 hI (by decide)) (by decide) hf dX0_set_118 (fun x7 H locs hI hf => ?_)
          refine lv_aload_n hx hb dX0_set_119 rfl (lv_at hl 0 rfl) ?_
          refine lv_iconst (v := 0) hx hb dX0_set_120 (by decide) ?_
          refine tpX0_377 C hI dX0_set_121 (fun H locs hI => ?_)
          refine lv_iconst (v := 1) hx hb dX0_set_124 (by decide) ?_
          exact t_zretc C hI zb_1 hf dX0_set_125
      · refine lv_aload_n hx hb dX0_set_23 rfl (lv_at hl 0 rfl) ?_
        refine tgX0_152 C hI dX0_set_24 ?_
        refine lv_iload_n hx hb dX0_set_27 rfl (lv_at hl 3 rfl) ?_
        refine lv_iconst (v := 1) hx hb dX0_set_28 (by decide) ?_
        refine b_icne (tgt := 46) hx hb hf dX0_set_29 (by decide) (fun hf => ?_) (fun hf => ?_)
        · refine lv_aload_n hx hb dX0_set_46 rfl (lv_at hl 0 rfl) ?_
          refine tgX0_152 C hI dX0_set_47 ?_
          refine tgX0_415 C hI (tI.l3 hI (by decide)) dX0_set_50 ?_
          refine lv_iconst (v := 1) hx hb dX0_set_53 (by decide) ?_
          refine lv_iload_n hx hb dX0_set_54 rfl (lv_at hl 2 rfl) ?_
          refine lv_ishl hx hb dX0_set_55 ?_
          refine lv_iconst (v := (-1)) hx hb dX0_set_56 (by decide) ?_
          refine lv_ixor hx hb dX0_set_57 ?_
          refine lv_iand hx hb dX0_set_58 ?_
          refine tpX0_415 C hI (tI.l3 hI (by decide)) dX0_set_59 (fun H locs hI => ?_)
          refine lv_goto (tgt := 119) hx hb dX0_set_62 (by decide) ?_
          refine lv_aload_n hx hb dX0_set_119 rfl (lv_at hl 0 rfl) ?_
          refine lv_iconst (v := 0) hx hb dX0_set_120 (by decide) ?_
          refine tpX0_377 C hI dX0_set_121 (fun H locs hI => ?_)
          refine lv_iconst (v := 1) hx hb dX0_set_124 (by decide) ?_
          exact t_zretc C hI zb_1 hf dX0_set_125
        · refine lv_aload_n hx hb dX0_set_32 rfl (lv_at hl 0 rfl) ?_
          refine tgX0_152 C hI dX0_set_33 ?_
          refine tgX0_415 C hI (tI.l3 hI (by decide)) dX0_set_36 ?_
          refine lv_iconst (v := 1) hx hb dX0_set_39 (by decide) ?_
          refine lv_iload_n hx hb dX0_set_40 rfl (lv_at hl 2 rfl) ?_
          refine lv_ishl hx hb dX0_set_41 ?_
          refine lv_ior hx hb dX0_set_42 ?_
          refine lv_goto (tgt := 59) hx hb dX0_set_43 (by decide) ?_
          refine tpX0_415 C hI (tI.l3 hI (by decide)) dX0_set_59 (fun H locs hI => ?_)
          refine lv_goto (tgt := 119) hx hb dX0_set_62 (by decide) ?_
          refine lv_aload_n hx hb dX0_set_119 rfl (lv_at hl 0 rfl) ?_
          refine lv_iconst (v := 0) hx hb dX0_set_120 (by decide) ?_
          refine tpX0_377 C hI dX0_set_121 (fun H locs hI => ?_)
          refine lv_iconst (v := 1) hx hb dX0_set_124 (by decide) ?_
          exact t_zretc C hI zb_1 hf dX0_set_125
    · refine lv_iconst (v := 0) hx hb dX0_set_16 (by decide) ?_
      exact t_zretc C hI zb_0 hf dX0_set_17
/-! TwelveChain$Chain.isMoved(I)Z -/
abbrev frC_isMoved : Nat := 0
abbrev loC_isMoved : Nat := 0
def fC_isMoved (N : Nat) (B : Nat × Nat) (x : TS) (l0 : cIx) (l1 : Int32) : Option (Int32 × TS) :=
  (rd 12 (tC x l0 4) l1).bind fun v1 =>
  lt (if v1 = (-1) then 0 else 1 : Int32) fun v2 =>
  some (zb v2, x)
theorem tmC_isMoved (l : Launch) (N : Nat) {w : tO} {A : Nat → Prop} (B : Nat × Nat) {l0 : Nat} (hi_l0 : l0 < wn w) : ∀ (x : TS) (l1 : Int32) (r : Int32) (xr : TS), fC_isMoved N B x l0 l1 = some (r, xr) → tMet l yX2_isMoved (ws_ yX2_isMoved cX2_isMoved 2 (some .boolean)) frC_isMoved loC_isMoved [.ref (wG w l0 5), .int l1] w A B x (some (.int r)) xr := by
  intro x l1 r xr hf
  refine t_start (cc := cX2_isMoved) (own := RX2) (by decide +kernel) rfl (Nat.le_of_ble_eq_true rfl) rfl ?_
  intro p e s m args below meth c ls H locs C hmn hI hl
  have hx := C.1.1
  have hb := C.1.2.1
  have hown := C.1.2.2.2.1
  have hts := C.1.2.2.2.2.1
  have hE := C.2.2
  rw [fC_isMoved] at hf
  refine lv_aload_n hx hb dX2_isMoved_0 rfl (lv_at hl 0 rfl) ?_
  refine tgX2_28 C hI hi_l0 dX2_isMoved_1 ?_
  refine lv_iload_n hx hb dX2_isMoved_4 rfl (lv_at hl 1 rfl) ?_
  refine t_cald C hI hi_l0 (by decide) hf dX2_isMoved_5 (fun v1 hf => ?_)
  refine lv_iconst (v := (-1)) hx hb dX2_isMoved_6 (by decide) ?_
  suffices hJ : ∀ v2 : Int32, (v2 = (if v1 = (-1) then 0 else 1 : Int32)) → W p l e (tRm B frC_isMoved loC_isMoved s.heap.size (SL s.heap)) s m args below meth c H locs (tZ x - s.heap.size) (tY x - SL s.heap) (MQ below (tQ w A B (some (.int r)) xr) args s (B.1 - s.heap.size) (B.2 - SL s.heap) A) (F0 m 15 ls [.int v2]) by
    refine lv_icmp_eq (tgt := 14) hx hb dX2_isMoved_7 (by decide) (fun hc => ?_) (fun hc => ?_)
    · refine lv_iconst (v := 0) hx hb dX2_isMoved_14 (by decide) ?_
      exact hJ _ (if_pos hc).symm
    · refine lv_iconst (v := 1) hx hb dX2_isMoved_10 (by decide) ?_
      refine lv_goto (tgt := 15) hx hb dX2_isMoved_11 (by decide) ?_
      exact hJ _ (if_neg hc).symm
  intro v2 hv
  have hf := lt_of hv hf
  exact t_zret C hI hf dX2_isMoved_15
/-! TwelveChain$Chain.isThere(I)Z -/
abbrev frC_isThere : Nat := 1
abbrev loC_isThere : Nat := 21
def fC_isThere (N : Nat) (B : Nat × Nat) (x : TS) (l0 : cIx) (l1 : Int32) : Option (Int32 × TS) :=
  b2 (fC_isMoved N B x l0 l1) fun v2 x1 =>
  if v2 = 0 then
    (fT_has N (tF x1 l0 6) l1).bind fun v3 =>
    if v3 = 0 then
      some (1, x1)
    else
      some (0, x1)
  else
    some (0, x1)
theorem tmC_isThere (l : Launch) (N : Nat) {w : tO} {A : Nat → Prop} (B : Nat × Nat) {l0 : Nat} (hi_l0 : l0 < wn w) : ∀ (x : TS) (l1 : Int32) (r : Int32) (xr : TS), fC_isThere N B x l0 l1 = some (r, xr) → tMet l yX2_isThere (ws_ yX2_isThere cX2_isThere 2 (some .boolean)) frC_isThere loC_isThere [.ref (wG w l0 5), .int l1] w A B x (some (.int r)) xr := by
  intro x l1 r xr hf
  refine t_start (cc := cX2_isThere) (own := RX2) (by decide +kernel) rfl (Nat.le_of_ble_eq_true rfl) rfl ?_
  intro p e s m args below meth c ls H locs C hmn hI hl
  have hx := C.1.1
  have hb := C.1.2.1
  have hown := C.1.2.2.2.1
  have hts := C.1.2.2.2.2.1
  have hE := C.2.2
  rw [fC_isThere] at hf
  refine lv_aload_n hx hb dX2_isThere_0 rfl (lv_at hl 0 rfl) ?_
  refine lv_iload_n hx hb dX2_isThere_1 rfl (lv_at hl 1 rfl) ?_
  refine t_cVi (rest := []) C hI hf (tmC_isMoved l N B hi_l0 _ _) (rv_chain C hI hi_l0) cqX2_C_isMoved ⟨Nat.le_of_ble_eq_true rfl, Nat.le_of_ble_eq_true rfl⟩ rfl hl.1 rfl (Nat.le_of_ble_eq_true rfl) dX2_isThere_2 (fun v2 x1 H locs hI hf => ?_)
  refine b_ifne (tgt := 23) hx hb hf dX2_isThere_5 (by decide) (fun hf => ?_) (fun hf => ?_)
  · refine lv_iconst (v := 0) hx hb dX2_isThere_23 (by decide) ?_
    exact t_zretc C hI zb_0 hf dX2_isThere_24
  · refine lv_aload_n hx hb dX2_isThere_8 rfl (lv_at hl 0 rfl) ?_
    refine tgX2_39 C hI hi_l0 dX2_isThere_9 ?_
    refine lv_iload_n hx hb dX2_isThere_12 rfl (lv_at hl 1 rfl) ?_
    refine g_calliSN (rest := []) C hf (smT_has l N _ _) cn_T_has q888 (List.mem_of_getElem? (i := 6) rfl) ⟨rfl, rfl⟩ ⟨Nat.le_of_ble_eq_true rfl, Nat.le_of_ble_eq_true rfl⟩ rfl hl.1 rfl (Nat.le_of_ble_eq_true rfl) (t_room hI) dX2_isThere_13 (fun v3 hf => ?_)
    refine b_ifne (tgt := 23) hx hb hf dX2_isThere_16 (by decide) (fun hf => ?_) (fun hf => ?_)
    · refine lv_iconst (v := 0) hx hb dX2_isThere_23 (by decide) ?_
      exact t_zretc C hI zb_0 hf dX2_isThere_24
    · refine lv_iconst (v := 1) hx hb dX2_isThere_19 (by decide) ?_
      refine lv_goto (tgt := 24) hx hb dX2_isThere_20 (by decide) ?_
      exact t_zretc C hI zb_1 hf dX2_isThere_24
/-! TwelveChain$Chain.canAsk(I)Z -/
abbrev frC_canAsk : Nat := 2
abbrev loC_canAsk : Nat := 42
def fC_canAsk (N : Nat) (B : Nat × Nat) (x : TS) (l0 : cIx) (l1 : Int32) : Option (Int32 × TS) :=
  if ((tS x 21) - 1) ≤ l1 then
    some (0, x)
  else
    b2 (fC_isThere N B x l0 (l1 + 1)) fun v2 x1 =>
    if v2 = 0 then
      some (0, x1)
    else
      some (1, x1)
theorem tmC_canAsk (l : Launch) (N : Nat) {w : tO} {A : Nat → Prop} (B : Nat × Nat) {l0 : Nat} (hi_l0 : l0 < wn w) : ∀ (x : TS) (l1 : Int32) (r : Int32) (xr : TS), fC_canAsk N B x l0 l1 = some (r, xr) → tMet l yX2_canAsk (ws_ yX2_canAsk cX2_canAsk 2 (some .boolean)) frC_canAsk loC_canAsk [.ref (wG w l0 5), .int l1] w A B x (some (.int r)) xr := by
  intro x l1 r xr hf
  refine t_start (cc := cX2_canAsk) (own := RX2) (by decide +kernel) rfl (Nat.le_of_ble_eq_true rfl) rfl ?_
  intro p e s m args below meth c ls H locs C hmn hI hl
  have hx := C.1.1
  have hb := C.1.2.1
  have hown := C.1.2.2.2.1
  have hts := C.1.2.2.2.2.1
  have hE := C.2.2
  rw [fC_canAsk] at hf
  refine lv_iload_n hx hb dX2_canAsk_0 rfl (lv_at hl 1 rfl) ?_
  refine lv_aload_n hx hb dX2_canAsk_1 rfl (lv_at hl 0 rfl) ?_
  refine tgX2_3 C hI hi_l0 dX2_canAsk_2 ?_
  refine tgN_75 C hI dX2_canAsk_5 ?_
  refine lv_iconst (v := 1) hx hb dX2_canAsk_8 (by decide) ?_
  refine lv_isub hx hb dX2_canAsk_9 ?_
  refine b_icge (tgt := 27) hx hb hf dX2_canAsk_10 (by decide) (fun hf => ?_) (fun hf => ?_)
  · refine lv_iconst (v := 0) hx hb dX2_canAsk_27 (by decide) ?_
    exact t_zretc C hI zb_0 hf dX2_canAsk_28
  · refine lv_aload_n hx hb dX2_canAsk_13 rfl (lv_at hl 0 rfl) ?_
    refine lv_iload_n hx hb dX2_canAsk_14 rfl (lv_at hl 1 rfl) ?_
    refine lv_iconst (v := 1) hx hb dX2_canAsk_15 (by decide) ?_
    refine lv_iadd hx hb dX2_canAsk_16 ?_
    refine t_cVi (rest := []) C hI hf (tmC_isThere l N B hi_l0 _ _) (rv_chain C hI hi_l0) cqX2_C_isThere ⟨Nat.le_of_ble_eq_true rfl, Nat.le_of_ble_eq_true rfl⟩ rfl hl.1 rfl (Nat.le_of_ble_eq_true rfl) dX2_canAsk_17 (fun v2 x1 H locs hI hf => ?_)
    refine b_ifeq (tgt := 27) hx hb hf dX2_canAsk_20 (by decide) (fun hf => ?_) (fun hf => ?_)
    · refine lv_iconst (v := 0) hx hb dX2_canAsk_27 (by decide) ?_
      exact t_zretc C hI zb_0 hf dX2_canAsk_28
    · refine lv_iconst (v := 1) hx hb dX2_canAsk_23 (by decide) ?_
      refine lv_goto (tgt := 28) hx hb dX2_canAsk_24 (by decide) ?_
      exact t_zretc C hI zb_1 hf dX2_canAsk_28
/-! TwelveChain$Chain.beginsPart(II)Z -/
abbrev frC_beginsPart : Nat := 1
abbrev loC_beginsPart : Nat := 21
def fC_beginsPart (N : Nat) (B : Nat × Nat) (x : TS) (l0 : cIx) (l1 : Int32) (l2 : Int32) : Option (Int32 × TS) :=
  if l1 = 0 then
    some (1, x)
  else
    (fT_has N l2 l1).bind fun v1 =>
    if v1 = 0 then
      some (0, x)
    else
      some (1, x)
theorem tmC_beginsPart (l : Launch) (N : Nat) {w : tO} {A : Nat → Prop} (B : Nat × Nat) {l0 : Nat} (hi_l0 : l0 < wn w) : ∀ (x : TS) (l1 : Int32) (l2 : Int32) (r : Int32) (xr : TS), fC_beginsPart N B x l0 l1 l2 = some (r, xr) → tMet l yX2_beginsPart (ws_ yX2_beginsPart cX2_beginsPart 3 (some .boolean)) frC_beginsPart loC_beginsPart [.ref (wG w l0 5), .int l1, .int l2] w A B x (some (.int r)) xr := by
  intro x l1 l2 r xr hf
  refine t_start (cc := cX2_beginsPart) (own := RX2) (by decide +kernel) rfl (Nat.le_of_ble_eq_true rfl) rfl ?_
  intro p e s m args below meth c ls H locs C hmn hI hl
  have hx := C.1.1
  have hb := C.1.2.1
  have hown := C.1.2.2.2.1
  have hts := C.1.2.2.2.2.1
  have hE := C.2.2
  rw [fC_beginsPart] at hf
  refine lv_iload_n hx hb dX2_beginsPart_0 rfl (lv_at hl 1 rfl) ?_
  refine b_ifeq (tgt := 12) hx hb hf dX2_beginsPart_1 (by decide) (fun hf => ?_) (fun hf => ?_)
  · refine lv_iconst (v := 1) hx hb dX2_beginsPart_12 (by decide) ?_
    refine lv_goto (tgt := 17) hx hb dX2_beginsPart_13 (by decide) ?_
    exact t_zretc C hI zb_1 hf dX2_beginsPart_17
  · refine lv_iload_n hx hb dX2_beginsPart_4 rfl (lv_at hl 2 rfl) ?_
    refine lv_iload_n hx hb dX2_beginsPart_5 rfl (lv_at hl 1 rfl) ?_
    refine g_calliSN (rest := []) C hf (smT_has l N _ _) cn_T_has q888 (List.mem_of_getElem? (i := 6) rfl) ⟨rfl, rfl⟩ ⟨Nat.le_of_ble_eq_true rfl, Nat.le_of_ble_eq_true rfl⟩ rfl hl.1 rfl (Nat.le_of_ble_eq_true rfl) (t_room hI) dX2_beginsPart_6 (fun v1 hf => ?_)
    refine b_ifeq (tgt := 16) hx hb hf dX2_beginsPart_9 (by decide) (fun hf => ?_) (fun hf => ?_)
    · refine lv_iconst (v := 0) hx hb dX2_beginsPart_16 (by decide) ?_
      exact t_zretc C hI zb_0 hf dX2_beginsPart_17
    · refine lv_iconst (v := 1) hx hb dX2_beginsPart_12 (by decide) ?_
      refine lv_goto (tgt := 17) hx hb dX2_beginsPart_13 (by decide) ?_
      exact t_zretc C hI zb_1 hf dX2_beginsPart_17
/-! TwelveChain$Chain.endOf(II)I -/
abbrev frC_endOf : Nat := 1
abbrev loC_endOf : Nat := 21
def fC_endOf_b31 (N : Nat) (B : Nat × Nat) (x : TS) (l0 : cIx) (l3 : Int32) : Option (Int32 × TS) :=
  (fJm_min N l3 ((tS x 21) - 1)).bind fun v1 =>
  some (v1, x)
theorem w_fC_endOf_b31 {N : Nat} {B : Nat × Nat} {r : Int32} {xr : TS} (C : tCx w A p s m args meth c cX2_endOf 4 RX2 (some .int)) : ∀ (x : TS) (l0 : cIx) (l3 : Int32) (H : Heap) (locs : List Loc) (ls : Array Slot), l0 < wn w → tI w A B x s.heap H locs → lv_has ls 4 [(0, .ref (wG w l0 5)), (3, .int l3)] → fC_endOf_b31 N B x l0 l3 = some (r, xr) → W p l e (tRm B frC_endOf loC_endOf s.heap.size (SL s.heap)) s m args below meth c H locs (tZ x - s.heap.size) (tY x - SL s.heap) (MQ below (tQ w A B (some (.int r)) xr) args s (B.1 - s.heap.size) (B.2 - SL s.heap) A) (F0 m 31 ls []) := by
  have hx := C.1.1
  have hb := C.1.2.1
  have hown := C.1.2.2.2.1
  have hts := C.1.2.2.2.2.1
  have hE := C.2.2
  intro x l0 l3 H locs ls hi_l0 hI hl hf
  rw [fC_endOf_b31] at hf
  refine lv_iload_n hx hb dX2_endOf_31 rfl (lv_at hl 1 rfl) ?_
  refine lv_aload_n hx hb dX2_endOf_32 rfl (lv_at hl 0 rfl) ?_
  refine tgX2_3 C hI hi_l0 dX2_endOf_33 ?_
  refine tgN_75 C hI dX2_endOf_36 ?_
  refine lv_iconst (v := 1) hx hb dX2_endOf_39 (by decide) ?_
  refine lv_isub hx hb dX2_endOf_40 ?_
  refine g_calliS (rest := []) C.1 hf (smJm_min l N _ _) cqC_Jm_min ⟨rfl, rfl⟩ ⟨Nat.le_of_ble_eq_true rfl, Nat.le_of_ble_eq_true rfl⟩ rfl hl.1 rfl (Nat.le_of_ble_eq_true rfl) (t_room hI) dX2_endOf_41 (fun v1 hf => ?_)
  exact t_iret C hI hf dX2_endOf_44
def fC_endOf_b4 (N : Nat) (B : Nat × Nat) : Nat → TS → cIx → Int32 → Int32 → Option (Int32 × TS)
  | 0, _, _, _, _ => none
  | n + 1, x, l0, l2, l3 =>
  if ((tS x 21) - 1) ≤ l3 then
    fC_endOf_b31 N B x l0 l3
  else
    (fT_has N l2 l3).bind fun v1 =>
    if v1 = 0 then
      fC_endOf_b4 N B n x l0 l2 (l3 + 1)
    else
      fC_endOf_b31 N B x l0 l3
theorem w_fC_endOf_b4 {N : Nat} {B : Nat × Nat} {r : Int32} {xr : TS} (C : tCx w A p s m args meth c cX2_endOf 4 RX2 (some .int)) : ∀ (n : Nat) (x : TS) (l0 : cIx) (l2 : Int32) (l3 : Int32) (H : Heap) (locs : List Loc) (ls : Array Slot), l0 < wn w → tI w A B x s.heap H locs → lv_has ls 4 [(0, .ref (wG w l0 5)), (2, .int l2), (3, .int l3)] → fC_endOf_b4 N B n x l0 l2 l3 = some (r, xr) → W p l e (tRm B frC_endOf loC_endOf s.heap.size (SL s.heap)) s m args below meth c H locs (tZ x - s.heap.size) (tY x - SL s.heap) (MQ below (tQ w A B (some (.int r)) xr) args s (B.1 - s.heap.size) (B.2 - SL s.heap) A) (F0 m 4 ls []) := by
  have hx := C.1.1
  have hb := C.1.2.1
  have hown := C.1.2.2.2.1
  have hts := C.1.2.2.2.2.1
  have hE := C.2.2
  intro n
  induction n with
  | zero => intro x l0 l2 l3 H locs ls hi_l0 hI hl hf; rw [fC_endOf_b4] at hf; cases hf
  | succ n ih =>
  intro x l0 l2 l3 H locs ls hi_l0 hI hl hf
  rw [fC_endOf_b4] at hf
  refine lv_iload_n hx hb dX2_endOf_4 rfl (lv_at hl 2 rfl) ?_
  refine lv_aload_n hx hb dX2_endOf_5 rfl (lv_at hl 0 rfl) ?_
  refine tgX2_3 C hI hi_l0 dX2_endOf_6 ?_
  refine tgN_75 C hI dX2_endOf_9 ?_
  refine lv_iconst (v := 1) hx hb dX2_endOf_12 (by decide) ?_
  refine lv_isub hx hb dX2_endOf_13 ?_
  refine b_icge (tgt := 31) hx hb hf dX2_endOf_14 (by decide) (fun hf => ?_) (fun hf => ?_)
  · exact w_fC_endOf_b31 C x l0 l3 _ _ _ hi_l0 hI (lv_sub hl [0, 2] rfl) hf
  · refine lv_iload_n hx hb dX2_endOf_17 rfl (lv_at hl 1 rfl) ?_
    refine lv_iload_n hx hb dX2_endOf_18 rfl (lv_at hl 2 rfl) ?_
    refine g_calliSN (rest := []) C hf (smT_has l N _ _) cn_T_has q888 (List.mem_of_getElem? (i := 6) rfl) ⟨rfl, rfl⟩ ⟨Nat.le_of_ble_eq_true rfl, Nat.le_of_ble_eq_true rfl⟩ rfl hl.1 rfl (Nat.le_of_ble_eq_true rfl) (t_room hI) dX2_endOf_19 (fun v1 hf => ?_)
    refine b_ifne (tgt := 31) hx hb hf dX2_endOf_22 (by decide) (fun hf => ?_) (fun hf => ?_)
    · exact w_fC_endOf_b31 C x l0 l3 _ _ _ hi_l0 hI (lv_sub hl [0, 2] rfl) hf
    · refine lv_iinc (v := l3 + 1) (lv' := [(3, .int (l3 + 1)), (0, .ref (wG w l0 5)), (2, .int l2)]) hx hb dX2_endOf_25 hl (k := 2) rfl rfl (by decide) rfl (fun ls hl => ?_)
      refine lv_goto (tgt := 4) hx hb dX2_endOf_28 (by decide) ?_
      exact ih x l0 l2 (l3 + 1) _ _ _ hi_l0 hI (lv_sub hl [1, 2, 0] rfl) hf
def fC_endOf (N : Nat) (B : Nat × Nat) (x : TS) (l0 : cIx) (l1 : Int32) (l2 : Int32) : Option (Int32 × TS) :=
  fC_endOf_b4 N B N x l0 l2 (l1 + 1)
theorem tmC_endOf (l : Launch) (N : Nat) {w : tO} {A : Nat → Prop} (B : Nat × Nat) {l0 : Nat} (hi_l0 : l0 < wn w) : ∀ (x : TS) (l1 : Int32) (l2 : Int32) (r : Int32) (xr : TS), fC_endOf N B x l0 l1 l2 = some (r, xr) → tMet l yX2_endOf (ws_ yX2_endOf cX2_endOf 4 (some .int)) frC_endOf loC_endOf [.ref (wG w l0 5), .int l1, .int l2] w A B x (some (.int r)) xr := by
  intro x l1 l2 r xr hf
  refine t_start (cc := cX2_endOf) (own := RX2) (by decide +kernel) rfl (Nat.le_of_ble_eq_true rfl) rfl ?_
  intro p e s m args below meth c ls H locs C hmn hI hl
  have hx := C.1.1
  have hb := C.1.2.1
  have hown := C.1.2.2.2.1
  have hts := C.1.2.2.2.2.1
  have hE := C.2.2
  rw [fC_endOf] at hf
  refine lv_iload_n hx hb dX2_endOf_0 rfl (lv_at hl 1 rfl) ?_
  refine lv_iconst (v := 1) hx hb dX2_endOf_1 (by decide) ?_
  refine lv_iadd hx hb dX2_endOf_2 ?_
  refine lv_istore_n (lv' := [(3, .int (l1 + 1)), (0, .ref (wG w l0 5)), (1, .int l1), (2, .int l2)]) hx hb dX2_endOf_3 rfl hl (by decide) rfl (fun ls hl => ?_)
  exact w_fC_endOf_b4 C N x l0 l2 (l1 + 1) _ _ _ hi_l0 hI (lv_sub hl [1, 3, 0] rfl) hf
/-! TwelveChain$Chain.lacksFrom(I)I -/
abbrev frC_lacksFrom : Nat := 2
abbrev loC_lacksFrom : Nat := 44
def fC_lacksFrom_b4 (N : Nat) (B : Nat × Nat) : Nat → TS → cIx → Int32 → Int32 → Int32 → Option (Int32 × TS)
  | 0, _, _, _, _, _ => none
  | n + 1, x, l0, l1, l2, l3 =>
  b2 (fC_endOf N B x l0 l1 (tF x l0 7)) fun v2 x1 =>
  if v2 < l3 then
    some (l2, x1)
  else
    (fT_has N (tF x1 l0 5) l3).bind fun v3 =>
    lt (if v3 = 0 then 1 <<< (l3 &&& 31) else 0 : Int32) fun v4 =>
    fC_lacksFrom_b4 N B n x1 l0 l1 (l2 ||| v4) (l3 + 1)
theorem w_fC_lacksFrom_b4 {N : Nat} {B : Nat × Nat} {r : Int32} {xr : TS} (C : tCx w A p s m args meth c cX2_lacksFrom 4 RX2 (some .int)) : ∀ (n : Nat) (x : TS) (l0 : cIx) (l1 : Int32) (l2 : Int32) (l3 : Int32) (H : Heap) (locs : List Loc) (ls : Array Slot), l0 < wn w → tI w A B x s.heap H locs → lv_has ls 4 [(0, .ref (wG w l0 5)), (1, .int l1), (2, .int l2), (3, .int l3)] → fC_lacksFrom_b4 N B n x l0 l1 l2 l3 = some (r, xr) → W p l e (tRm B frC_lacksFrom loC_lacksFrom s.heap.size (SL s.heap)) s m args below meth c H locs (tZ x - s.heap.size) (tY x - SL s.heap) (MQ below (tQ w A B (some (.int r)) xr) args s (B.1 - s.heap.size) (B.2 - SL s.heap) A) (F0 m 4 ls []) := by
  have hx := C.1.1
  have hb := C.1.2.1
  have hown := C.1.2.2.2.1
  have hts := C.1.2.2.2.2.1
  have hE := C.2.2
  intro n
  induction n with
  | zero => intro x l0 l1 l2 l3 H locs ls hi_l0 hI hl hf; rw [fC_lacksFrom_b4] at hf; cases hf
  | succ n ih =>
  intro x l0 l1 l2 l3 H locs ls hi_l0 hI hl hf
  rw [fC_lacksFrom_b4] at hf
  refine lv_iload_n hx hb dX2_lacksFrom_4 rfl (lv_at hl 3 rfl) ?_
  refine lv_aload_n hx hb dX2_lacksFrom_5 rfl (lv_at hl 0 rfl) ?_
  refine lv_iload_n hx hb dX2_lacksFrom_6 rfl (lv_at hl 1 rfl) ?_
  refine lv_aload_n hx hb dX2_lacksFrom_7 rfl (lv_at hl 0 rfl) ?_
  refine tgX2_42 C hI hi_l0 dX2_lacksFrom_8 ?_
  refine t_cVi (rest := [.int l3]) C hI hf (tmC_endOf l N B hi_l0 _ _ _) (rv_chain C hI hi_l0) cqX2_C_endOf ⟨Nat.le_of_ble_eq_true rfl, Nat.le_of_ble_eq_true rfl⟩ rfl hl.1 rfl (Nat.le_of_ble_eq_true rfl) dX2_lacksFrom_11 (fun v2 x1 H locs hI hf => ?_)
  refine b_icgt (tgt := 44) hx hb hf dX2_lacksFrom_14 (by decide) (fun hf => ?_) (fun hf => ?_)
  · refine lv_iload_n hx hb dX2_lacksFrom_44 rfl (lv_at hl 2 rfl) ?_
    exact t_iret C hI hf dX2_lacksFrom_45
  · refine lv_iload_n hx hb dX2_lacksFrom_17 rfl (lv_at hl 2 rfl) ?_
    refine lv_aload_n hx hb dX2_lacksFrom_18 rfl (lv_at hl 0 rfl) ?_
    refine tgX2_35 C hI hi_l0 dX2_lacksFrom_19 ?_
    refine lv_iload_n hx hb dX2_lacksFrom_22 rfl (lv_at hl 3 rfl) ?_
    refine g_calliSN (rest := [.int l2]) C hf (smT_has l N _ _) cn_T_has q888 (List.mem_of_getElem? (i := 6) rfl) ⟨rfl, rfl⟩ ⟨Nat.le_of_ble_eq_true rfl, Nat.le_of_ble_eq_true rfl⟩ rfl hl.1 rfl (Nat.le_of_ble_eq_true rfl) (t_room hI) dX2_lacksFrom_23 (fun v3 hf => ?_)
    suffices hJ : ∀ v4 : Int32, (v4 = (if v3 = 0 then 1 <<< (l3 &&& 31) else 0 : Int32)) → W p l e (tRm B frC_lacksFrom loC_lacksFrom s.heap.size (SL s.heap)) s m args below meth c H locs (tZ x1 - s.heap.size) (tY x1 - SL s.heap) (MQ below (tQ w A B (some (.int r)) xr) args s (B.1 - s.heap.size) (B.2 - SL s.heap) A) (F0 m 36 ls [.int v4, .int l2]) by
      refine lv_if_eq (tgt := 33) hx hb dX2_lacksFrom_26 (by decide) (fun hc => ?_) (fun hc => ?_)
      · refine lv_iconst (v := 1) hx hb dX2_lacksFrom_33 (by decide) ?_
        refine lv_iload_n hx hb dX2_lacksFrom_34 rfl (lv_at hl 3 rfl) ?_
        refine lv_ishl hx hb dX2_lacksFrom_35 ?_
        exact hJ _ (if_pos hc).symm
      · refine lv_iconst (v := 0) hx hb dX2_lacksFrom_29 (by decide) ?_
        refine lv_goto (tgt := 36) hx hb dX2_lacksFrom_30 (by decide) ?_
        exact hJ _ (if_neg hc).symm
    intro v4 hv
    have hf := lt_of hv hf
    refine lv_ior hx hb dX2_lacksFrom_36 ?_
    refine lv_istore_n (lv' := [(2, .int (l2 ||| v4)), (0, .ref (wG w l0 5)), (1, .int l1), (3, .int l3)]) hx hb dX2_lacksFrom_37 rfl hl (by decide) rfl (fun ls hl => ?_)
    refine lv_iinc (v := l3 + 1) (lv' := [(3, .int (l3 + 1)), (2, .int (l2 ||| v4)), (0, .ref (wG w l0 5)), (1, .int l1)]) hx hb dX2_lacksFrom_38 hl (k := 3) rfl rfl (by decide) rfl (fun ls hl => ?_)
    refine lv_goto (tgt := 4) hx hb dX2_lacksFrom_41 (by decide) ?_
    exact ih x1 l0 l1 (l2 ||| v4) (l3 + 1) _ _ _ hi_l0 hI (lv_sub hl [2, 3, 1, 0] rfl) hf
def fC_lacksFrom (N : Nat) (B : Nat × Nat) (x : TS) (l0 : cIx) (l1 : Int32) : Option (Int32 × TS) :=
  fC_lacksFrom_b4 N B N x l0 l1 0 l1
theorem tmC_lacksFrom (l : Launch) (N : Nat) {w : tO} {A : Nat → Prop} (B : Nat × Nat) {l0 : Nat} (hi_l0 : l0 < wn w) : ∀ (x : TS) (l1 : Int32) (r : Int32) (xr : TS), fC_lacksFrom N B x l0 l1 = some (r, xr) → tMet l yX2_lacksFrom (ws_ yX2_lacksFrom cX2_lacksFrom 4 (some .int)) frC_lacksFrom loC_lacksFrom [.ref (wG w l0 5), .int l1] w A B x (some (.int r)) xr := by
  intro x l1 r xr hf
  refine t_start (cc := cX2_lacksFrom) (own := RX2) (by decide +kernel) rfl (Nat.le_of_ble_eq_true rfl) rfl ?_
  intro p e s m args below meth c ls H locs C hmn hI hl
  have hx := C.1.1
  have hb := C.1.2.1
  have hown := C.1.2.2.2.1
  have hts := C.1.2.2.2.2.1
  have hE := C.2.2
  rw [fC_lacksFrom] at hf
  refine lv_iconst (v := 0) hx hb dX2_lacksFrom_0 (by decide) ?_
  refine lv_istore_n (lv' := [(2, .int 0), (0, .ref (wG w l0 5)), (1, .int l1)]) hx hb dX2_lacksFrom_1 rfl hl (by decide) rfl (fun ls hl => ?_)
  refine lv_iload_n hx hb dX2_lacksFrom_2 rfl (lv_at hl 2 rfl) ?_
  refine lv_istore_n (lv' := [(3, .int l1), (2, .int 0), (0, .ref (wG w l0 5)), (1, .int l1)]) hx hb dX2_lacksFrom_3 rfl hl (by decide) rfl (fun ls hl => ?_)
  exact w_fC_lacksFrom_b4 C N x l0 l1 0 l1 _ _ _ hi_l0 hI (lv_sub hl [2, 3, 1, 0] rfl) hf
/-! TwelveChain$Chain.lacksOf(I)I -/
abbrev frC_lacksOf : Nat := 3
abbrev loC_lacksOf : Nat := 67
def fC_lacksOf_b64 (N : Nat) (B : Nat × Nat) (x : TS) (l3 : Int32) : Option (Int32 × TS) :=
  (fJi_bitCount N l3).bind fun v1 =>
  some (v1, x)
theorem w_fC_lacksOf_b64 {N : Nat} {B : Nat × Nat} {r : Int32} {xr : TS} (C : tCx w A p s m args meth c cX2_lacksOf 4 RX2 (some .int)) : ∀ (x : TS) (l3 : Int32) (H : Heap) (locs : List Loc) (ls : Array Slot), tI w A B x s.heap H locs → lv_has ls 4 [(3, .int l3)] → fC_lacksOf_b64 N B x l3 = some (r, xr) → W p l e (tRm B frC_lacksOf loC_lacksOf s.heap.size (SL s.heap)) s m args below meth c H locs (tZ x - s.heap.size) (tY x - SL s.heap) (MQ below (tQ w A B (some (.int r)) xr) args s (B.1 - s.heap.size) (B.2 - SL s.heap) A) (F0 m 64 ls []) := by
  have hx := C.1.1
  have hb := C.1.2.1
  have hown := C.1.2.2.2.1
  have hts := C.1.2.2.2.2.1
  have hE := C.2.2
  intro x l3 H locs ls hI hl hf
  rw [fC_lacksOf_b64] at hf
  refine lv_iload_n hx hb dX2_lacksOf_64 rfl (lv_at hl 0 rfl) ?_
  refine g_calliS (rest := []) C.1 hf (smJi_bitCount l N _) cqC_Ji_bitCount ⟨rfl, rfl⟩ ⟨Nat.le_of_ble_eq_true rfl, Nat.le_of_ble_eq_true rfl⟩ rfl hl.1 rfl (Nat.le_of_ble_eq_true rfl) (t_room hI) dX2_lacksOf_65 (fun v1 hf => ?_)
  exact t_iret C hI hf dX2_lacksOf_68
def fC_lacksOf_b38 (N : Nat) (B : Nat × Nat) : Nat → TS → cIx → Int32 → Int32 → Option (Int32 × TS)
  | 0, _, _, _, _ => none
  | n + 1, x, l0, l2, l3 =>
  b2 (fC_beginsPart N B x l0 l2 (tF x l0 7)) fun v2 x1 =>
  if v2 = 0 then
    fC_lacksOf_b38 N B n x1 l0 (l2 + (-1)) l3
  else
    b2 (fC_lacksFrom N B x1 l0 l2) fun v4 x3 =>
    fC_lacksOf_b64 N B x3 (l3 ||| v4)
theorem w_fC_lacksOf_b38 {N : Nat} {B : Nat × Nat} {r : Int32} {xr : TS} (C : tCx w A p s m args meth c cX2_lacksOf 4 RX2 (some .int)) : ∀ (n : Nat) (x : TS) (l0 : cIx) (l2 : Int32) (l3 : Int32) (H : Heap) (locs : List Loc) (ls : Array Slot), l0 < wn w → tI w A B x s.heap H locs → lv_has ls 4 [(0, .ref (wG w l0 5)), (2, .int l2), (3, .int l3)] → fC_lacksOf_b38 N B n x l0 l2 l3 = some (r, xr) → W p l e (tRm B frC_lacksOf loC_lacksOf s.heap.size (SL s.heap)) s m args below meth c H locs (tZ x - s.heap.size) (tY x - SL s.heap) (MQ below (tQ w A B (some (.int r)) xr) args s (B.1 - s.heap.size) (B.2 - SL s.heap) A) (F0 m 38 ls []) := by
  have hx := C.1.1
  have hb := C.1.2.1
  have hown := C.1.2.2.2.1
  have hts := C.1.2.2.2.2.1
  have hE := C.2.2
  intro n
  induction n with
  | zero => intro x l0 l2 l3 H locs ls hi_l0 hI hl hf; rw [fC_lacksOf_b38] at hf; cases hf
  | succ n ih =>
  intro x l0 l2 l3 H locs ls hi_l0 hI hl hf
  rw [fC_lacksOf_b38] at hf
  refine lv_aload_n hx hb dX2_lacksOf_38 rfl (lv_at hl 0 rfl) ?_
  refine lv_iload_n hx hb dX2_lacksOf_39 rfl (lv_at hl 1 rfl) ?_
  refine lv_aload_n hx hb dX2_lacksOf_40 rfl (lv_at hl 0 rfl) ?_
  refine tgX2_42 C hI hi_l0 dX2_lacksOf_41 ?_
  refine t_cVi (rest := []) C hI hf (tmC_beginsPart l N B hi_l0 _ _ _) (rv_chain C hI hi_l0) cqX2_C_beginsPart ⟨Nat.le_of_ble_eq_true rfl, Nat.le_of_ble_eq_true rfl⟩ rfl hl.1 rfl (Nat.le_of_ble_eq_true rfl) dX2_lacksOf_44 (fun v2 x1 H locs hI hf => ?_)
  refine b_ifne (tgt := 56) hx hb hf dX2_lacksOf_47 (by decide) (fun hf => ?_) (fun hf => ?_)
  · refine lv_iload_n hx hb dX2_lacksOf_56 rfl (lv_at hl 2 rfl) ?_
    refine lv_aload_n hx hb dX2_lacksOf_57 rfl (lv_at hl 0 rfl) ?_
    refine lv_iload_n hx hb dX2_lacksOf_58 rfl (lv_at hl 1 rfl) ?_
    refine t_cVi (rest := [.int l3]) C hI hf (tmC_lacksFrom l N B hi_l0 _ _) (rv_chain C hI hi_l0) cqX2_C_lacksFrom ⟨Nat.le_of_ble_eq_true rfl, Nat.le_of_ble_eq_true rfl⟩ rfl hl.1 rfl (Nat.le_of_ble_eq_true rfl) dX2_lacksOf_59 (fun v4 x3 H locs hI hf => ?_)
    refine lv_ior hx hb dX2_lacksOf_62 ?_
    refine lv_istore_n (lv' := [(3, .int (l3 ||| v4)), (0, .ref (wG w l0 5)), (2, .int l2)]) hx hb dX2_lacksOf_63 rfl hl (by decide) rfl (fun ls hl => ?_)
    exact w_fC_lacksOf_b64 C x3 (l3 ||| v4) _ _ _ hI (lv_sub hl [0] rfl) hf
  · refine lv_iinc (v := l2 + (-1)) (lv' := [(2, .int (l2 + (-1))), (0, .ref (wG w l0 5)), (3, .int l3)]) hx hb dX2_lacksOf_50 hl (k := 1) rfl rfl (by decide) rfl (fun ls hl => ?_)
    refine lv_goto (tgt := 38) hx hb dX2_lacksOf_53 (by decide) ?_
    exact ih x1 l0 (l2 + (-1)) l3 _ _ _ hi_l0 hI (lv_sub hl [1, 0, 2] rfl) hf
def fC_lacksOf_b2 (N : Nat) (B : Nat × Nat) : Nat → TS → cIx → Int32 → Int32 → Option (Int32 × TS)
  | 0, _, _, _, _ => none
  | n + 1, x, l0, l1, l2 =>
  b2 (fC_beginsPart N B x l0 l2 (tF x l0 7)) fun v2 x1 =>
  if v2 = 0 then
    fC_lacksOf_b2 N B n x1 l0 l1 (l2 + (-1))
  else
    b2 (fC_lacksFrom N B x1 l0 l2) fun v4 x3 =>
    if l2 = l1 then
      if l1 ≤ 0 then
        fC_lacksOf_b64 N B x3 v4
      else
        fC_lacksOf_b38 N B N x3 l0 (l2 + (-1)) v4
    else
      fC_lacksOf_b64 N B x3 v4
theorem w_fC_lacksOf_b2 {N : Nat} {B : Nat × Nat} {r : Int32} {xr : TS} (C : tCx w A p s m args meth c cX2_lacksOf 4 RX2 (some .int)) : ∀ (n : Nat) (x : TS) (l0 : cIx) (l1 : Int32) (l2 : Int32) (H : Heap) (locs : List Loc) (ls : Array Slot), l0 < wn w → tI w A B x s.heap H locs → lv_has ls 4 [(0, .ref (wG w l0 5)), (1, .int l1), (2, .int l2)] → fC_lacksOf_b2 N B n x l0 l1 l2 = some (r, xr) → W p l e (tRm B frC_lacksOf loC_lacksOf s.heap.size (SL s.heap)) s m args below meth c H locs (tZ x - s.heap.size) (tY x - SL s.heap) (MQ below (tQ w A B (some (.int r)) xr) args s (B.1 - s.heap.size) (B.2 - SL s.heap) A) (F0 m 2 ls []) := by
  have hx := C.1.1
  have hb := C.1.2.1
  have hown := C.1.2.2.2.1
  have hts := C.1.2.2.2.2.1
  have hE := C.2.2
  intro n
  induction n with
  | zero => intro x l0 l1 l2 H locs ls hi_l0 hI hl hf; rw [fC_lacksOf_b2] at hf; cases hf
  | succ n ih =>
  intro x l0 l1 l2 H locs ls hi_l0 hI hl hf
  rw [fC_lacksOf_b2] at hf
  refine lv_aload_n hx hb dX2_lacksOf_2 rfl (lv_at hl 0 rfl) ?_
  refine lv_iload_n hx hb dX2_lacksOf_3 rfl (lv_at hl 2 rfl) ?_
  refine lv_aload_n hx hb dX2_lacksOf_4 rfl (lv_at hl 0 rfl) ?_
  refine tgX2_42 C hI hi_l0 dX2_lacksOf_5 ?_
  refine t_cVi (rest := []) C hI hf (tmC_beginsPart l N B hi_l0 _ _ _) (rv_chain C hI hi_l0) cqX2_C_beginsPart ⟨Nat.le_of_ble_eq_true rfl, Nat.le_of_ble_eq_true rfl⟩ rfl hl.1 rfl (Nat.le_of_ble_eq_true rfl) dX2_lacksOf_8 (fun v2 x1 H locs hI hf => ?_)
  refine b_ifne (tgt := 20) hx hb hf dX2_lacksOf_11 (by decide) (fun hf => ?_) (fun hf => ?_)
  · refine lv_aload_n hx hb dX2_lacksOf_20 rfl (lv_at hl 0 rfl) ?_
    refine lv_iload_n hx hb dX2_lacksOf_21 rfl (lv_at hl 2 rfl) ?_
    refine t_cVi (rest := []) C hI hf (tmC_lacksFrom l N B hi_l0 _ _) (rv_chain C hI hi_l0) cqX2_C_lacksFrom ⟨Nat.le_of_ble_eq_true rfl, Nat.le_of_ble_eq_true rfl⟩ rfl hl.1 rfl (Nat.le_of_ble_eq_true rfl) dX2_lacksOf_22 (fun v4 x3 H locs hI hf => ?_)
    refine lv_istore_n (lv' := [(3, .int v4), (0, .ref (wG w l0 5)), (1, .int l1), (2, .int l2)]) hx hb dX2_lacksOf_25 rfl hl (by decide) rfl (fun ls hl => ?_)
    refine lv_iload_n hx hb dX2_lacksOf_26 rfl (lv_at hl 3 rfl) ?_
    refine lv_iload_n hx hb dX2_lacksOf_27 rfl (lv_at hl 2 rfl) ?_
    refine b_icne (tgt := 64) hx hb hf dX2_lacksOf_28 (by decide) (fun hf => ?_) (fun hf => ?_)
    · exact w_fC_lacksOf_b64 C x3 v4 _ _ _ hI (lv_sub hl [0] rfl) hf
    · refine lv_iload_n hx hb dX2_lacksOf_31 rfl (lv_at hl 2 rfl) ?_
      refine b_ifle (tgt := 64) hx hb hf dX2_lacksOf_32 (by decide) (fun hf => ?_) (fun hf => ?_)
      · exact w_fC_lacksOf_b64 C x3 v4 _ _ _ hI (lv_sub hl [0] rfl) hf
      · refine lv_iinc (v := l2 + (-1)) (lv' := [(2, .int (l2 + (-1))), (3, .int v4), (0, .ref (wG w l0 5)), (1, .int l1)]) hx hb dX2_lacksOf_35 hl (k := 3) rfl rfl (by decide) rfl (fun ls hl => ?_)
        exact w_fC_lacksOf_b38 C N x3 l0 (l2 + (-1)) v4 _ _ _ hi_l0 hI (lv_sub hl [2, 0, 1] rfl) hf
  · refine lv_iinc (v := l2 + (-1)) (lv' := [(2, .int (l2 + (-1))), (0, .ref (wG w l0 5)), (1, .int l1)]) hx hb dX2_lacksOf_14 hl (k := 2) rfl rfl (by decide) rfl (fun ls hl => ?_)
    refine lv_goto (tgt := 2) hx hb dX2_lacksOf_17 (by decide) ?_
    exact ih x1 l0 l1 (l2 + (-1)) _ _ _ hi_l0 hI (lv_sub hl [1, 2, 0] rfl) hf
def fC_lacksOf (N : Nat) (B : Nat × Nat) (x : TS) (l0 : cIx) (l1 : Int32) : Option (Int32 × TS) :=
  fC_lacksOf_b2 N B N x l0 l1 l1
theorem tmC_lacksOf (l : Launch) (N : Nat) {w : tO} {A : Nat → Prop} (B : Nat × Nat) {l0 : Nat} (hi_l0 : l0 < wn w) : ∀ (x : TS) (l1 : Int32) (r : Int32) (xr : TS), fC_lacksOf N B x l0 l1 = some (r, xr) → tMet l yX2_lacksOf (ws_ yX2_lacksOf cX2_lacksOf 4 (some .int)) frC_lacksOf loC_lacksOf [.ref (wG w l0 5), .int l1] w A B x (some (.int r)) xr := by
  intro x l1 r xr hf
  refine t_start (cc := cX2_lacksOf) (own := RX2) (by decide +kernel) rfl (Nat.le_of_ble_eq_true rfl) rfl ?_
  intro p e s m args below meth c ls H locs C hmn hI hl
  have hx := C.1.1
  have hb := C.1.2.1
  have hown := C.1.2.2.2.1
  have hts := C.1.2.2.2.2.1
  have hE := C.2.2
  rw [fC_lacksOf] at hf
  refine lv_iload_n hx hb dX2_lacksOf_0 rfl (lv_at hl 1 rfl) ?_
  refine lv_istore_n (lv' := [(2, .int l1), (0, .ref (wG w l0 5)), (1, .int l1)]) hx hb dX2_lacksOf_1 rfl hl (by decide) rfl (fun ls hl => ?_)
  exact w_fC_lacksOf_b2 C N x l0 l1 l1 _ _ _ hi_l0 hI (lv_sub hl [1, 2, 0] rfl) hf
