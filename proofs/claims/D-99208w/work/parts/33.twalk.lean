set_option maxRecDepth 100000
variable {p : Program} {l : Launch} {e : Env} {R : Room} {s : State} {m : MethodId} {args : Array Value} {below : List Frame} {meth : Method} {c : Code} {H : Heap} {locs : List Loc} {Q : State → Prop}
variable {w : tO} {A : Nat → Prop}
/-! TwelveChain.goesBack()V -/
abbrev frT_goesBack : Nat := 3
abbrev loT_goesBack : Nat := 60
def fT_goesBack (N : Nat) (B : Nat × Nat) (x : TS) : Option TS :=
  (fC_become N B x 0 2).bind fun x1 =>
  some (sTS (sTR (sTR (sTR (sTR (sTS (sTA x1 25 (tA x1 31)) 21 (tS (sTA x1 25 (tA x1 31)) 32)) 18 (tR (sTS (sTA x1 25 (tA x1 31)) 21 (tS (sTA x1 25 (tA x1 31)) 32)) 33)) 19 (tR (sTR (sTS (sTA x1 25 (tA x1 31)) 21 (tS (sTA x1 25 (tA x1 31)) 32)) 18 (tR (sTS (sTA x1 25 (tA x1 31)) 21 (tS (sTA x1 25 (tA x1 31)) 32)) 33)) 34)) 20 (tR (sTR (sTR (sTS (sTA x1 25 (tA x1 31)) 21 (tS (sTA x1 25 (tA x1 31)) 32)) 18 (tR (sTS (sTA x1 25 (tA x1 31)) 21 (tS (sTA x1 25 (tA x1 31)) 32)) 33)) 19 (tR (sTR (sTS (sTA x1 25 (tA x1 31)) 21 (tS (sTA x1 25 (tA x1 31)) 32)) 18 (tR (sTS (sTA x1 25 (tA x1 31)) 21 (tS (sTA x1 25 (tA x1 31)) 32)) 33)) 34)) 35)) 16 (tR (sTR (sTR (sTR (sTS (sTA x1 25 (tA x1 31)) 21 (tS (sTA x1 25 (tA x1 31)) 32)) 18 (tR (sTS (sTA x1 25 (tA x1 31)) 21 (tS (sTA x1 25 (tA x1 31)) 32)) 33)) 19 (tR (sTR (sTS (sTA x1 25 (tA x1 31)) 21 (tS (sTA x1 25 (tA x1 31)) 32)) 18 (tR (sTS (sTA x1 25 (tA x1 31)) 21 (tS (sTA x1 25 (tA x1 31)) 32)) 33)) 34)) 20 (tR (sTR (sTR (sTS (sTA x1 25 (tA x1 31)) 21 (tS (sTA x1 25 (tA x1 31)) 32)) 18 (tR (sTS (sTA x1 25 (tA x1 31)) 21 (tS (sTA x1 25 (tA x1 31)) 32)) 33)) 19 (tR (sTR (sTS (sTA x1 25 (tA x1 31)) 21 (tS (sTA x1 25 (tA x1 31)) 32)) 18 (tR (sTS (sTA x1 25 (tA x1 31)) 21 (tS (sTA x1 25 (tA x1 31)) 32)) 33)) 34)) 35)) 36)) 27 0)
theorem tmT_goesBack (l : Launch) (N : Nat) {w : tO} {A : Nat → Prop} (B : Nat × Nat) : ∀ (x : TS) (xr : TS), fT_goesBack N B x  = some xr → tMet l yX0_goesBack (ws_ yX0_goesBack cX0_goesBack 1 none) frT_goesBack loT_goesBack [.ref (wa w 37)] w A B x none xr := by
  intro x  xr hf
  refine t_start (cc := cX0_goesBack) (own := RX0) (by decide +kernel) rfl (Nat.le_of_ble_eq_true rfl) rfl ?_
  intro p e s m args below meth c ls H locs C hmn hI hl
  have hx := C.1.1
  have hb := C.1.2.1
  have hown := C.1.2.2.2.1
  have hts := C.1.2.2.2.2.1
  have hE := C.2.2
  rw [fT_goesBack] at hf
  refine lv_aload_n hx hb dX0_goesBack_0 rfl (lv_at hl 0 rfl) ?_
  refine tgX0_152 C hI dX0_goesBack_1 ?_
  refine lv_aload_n hx hb dX0_goesBack_4 rfl (lv_at hl 0 rfl) ?_
  refine tgX0_159 C hI dX0_goesBack_5 ?_
  refine t_cVv (rest := []) C hI hf (tmC_become l N B (tI.l3 hI (by decide)) (tI.l3 hI (by decide)) _) (rv_chain C hI (tI.l3 hI (by decide))) cqX0_C_become ⟨Nat.le_of_ble_eq_true rfl, Nat.le_of_ble_eq_true rfl⟩ rfl hl.1 rfl (Nat.le_of_ble_eq_true rfl) dX0_goesBack_8 (fun x1 H locs hI hf => ?_)
  refine lv_aload_n hx hb dX0_goesBack_11 rfl (lv_at hl 0 rfl) ?_
  refine tgX0_178 C hI dX0_goesBack_12 ?_
  refine lv_aload_n hx hb dX0_goesBack_15 rfl (lv_at hl 0 rfl) ?_
  refine tgX0_162 C hI dX0_goesBack_16 ?_
  refine tc_copA (k0 := 31) (k1 := 25) C hI rfl rfl (by decide) (by decide) (by decide) ⟨Nat.le_of_ble_eq_true rfl, Nat.le_of_ble_eq_true rfl⟩ hl.1 (Nat.le_of_ble_eq_true rfl) dX0_goesBack_19 (fun H locs hI => ?_)
  refine lv_aload_n hx hb dX0_goesBack_22 rfl (lv_at hl 0 rfl) ?_
  refine lv_aload_n hx hb dX0_goesBack_23 rfl (lv_at hl 0 rfl) ?_
  refine tgX0_609 C hI dX0_goesBack_24 ?_
  refine tpX0_346 C hI dX0_goesBack_27 (fun H locs hI => ?_)
  refine lv_aload_n hx hb dX0_goesBack_30 rfl (lv_at hl 0 rfl) ?_
  refine lv_aload_n hx hb dX0_goesBack_31 rfl (lv_at hl 0 rfl) ?_
  refine tgX0_612 C hI dX0_goesBack_32 ?_
  refine tpX0_131 C hI dX0_goesBack_35 (fun H locs hI => ?_)
  refine lv_aload_n hx hb dX0_goesBack_38 rfl (lv_at hl 0 rfl) ?_
  refine lv_aload_n hx hb dX0_goesBack_39 rfl (lv_at hl 0 rfl) ?_
  refine tgX0_615 C hI dX0_goesBack_40 ?_
  refine tpX0_137 C hI dX0_goesBack_43 (fun H locs hI => ?_)
  refine lv_aload_n hx hb dX0_goesBack_46 rfl (lv_at hl 0 rfl) ?_
  refine lv_aload_n hx hb dX0_goesBack_47 rfl (lv_at hl 0 rfl) ?_
  refine tgX0_618 C hI dX0_goesBack_48 ?_
  refine tpX0_143 C hI dX0_goesBack_51 (fun H locs hI => ?_)
  refine lv_aload_n hx hb dX0_goesBack_54 rfl (lv_at hl 0 rfl) ?_
  refine lv_aload_n hx hb dX0_goesBack_55 rfl (lv_at hl 0 rfl) ?_
  refine tgX0_621 C hI dX0_goesBack_56 ?_
  refine tpX0_121 C hI dX0_goesBack_59 (fun H locs hI => ?_)
  refine lv_aload_n hx hb dX0_goesBack_62 rfl (lv_at hl 0 rfl) ?_
  refine lv_iconst (v := 0) hx hb dX0_goesBack_63 (by decide) ?_
  refine tpX0_377 C hI dX0_goesBack_64 (fun H locs hI => ?_)
  exact t_vret C hI hf dX0_goesBack_67
/-! TwelveChain.takesAll()V -/
abbrev frT_takesAll : Nat := 3
abbrev loT_takesAll : Nat := 60
def fT_takesAll (N : Nat) (B : Nat × Nat) (x : TS) : Option TS :=
  (fC_become N B x 2 0).bind fun x1 =>
  some (sTR (sTR (sTR (sTR (sTS (sTA x1 31 (tA x1 25)) 32 (tS (sTA x1 31 (tA x1 25)) 21)) 33 (tR (sTS (sTA x1 31 (tA x1 25)) 32 (tS (sTA x1 31 (tA x1 25)) 21)) 18)) 34 (tR (sTR (sTS (sTA x1 31 (tA x1 25)) 32 (tS (sTA x1 31 (tA x1 25)) 21)) 33 (tR (sTS (sTA x1 31 (tA x1 25)) 32 (tS (sTA x1 31 (tA x1 25)) 21)) 18)) 19)) 35 (tR (sTR (sTR (sTS (sTA x1 31 (tA x1 25)) 32 (tS (sTA x1 31 (tA x1 25)) 21)) 33 (tR (sTS (sTA x1 31 (tA x1 25)) 32 (tS (sTA x1 31 (tA x1 25)) 21)) 18)) 34 (tR (sTR (sTS (sTA x1 31 (tA x1 25)) 32 (tS (sTA x1 31 (tA x1 25)) 21)) 33 (tR (sTS (sTA x1 31 (tA x1 25)) 32 (tS (sTA x1 31 (tA x1 25)) 21)) 18)) 19)) 20)) 36 (tR (sTR (sTR (sTR (sTS (sTA x1 31 (tA x1 25)) 32 (tS (sTA x1 31 (tA x1 25)) 21)) 33 (tR (sTS (sTA x1 31 (tA x1 25)) 32 (tS (sTA x1 31 (tA x1 25)) 21)) 18)) 34 (tR (sTR (sTS (sTA x1 31 (tA x1 25)) 32 (tS (sTA x1 31 (tA x1 25)) 21)) 33 (tR (sTS (sTA x1 31 (tA x1 25)) 32 (tS (sTA x1 31 (tA x1 25)) 21)) 18)) 19)) 35 (tR (sTR (sTR (sTS (sTA x1 31 (tA x1 25)) 32 (tS (sTA x1 31 (tA x1 25)) 21)) 33 (tR (sTS (sTA x1 31 (tA x1 25)) 32 (tS (sTA x1 31 (tA x1 25)) 21)) 18)) 34 (tR (sTR (sTS (sTA x1 31 (tA x1 25)) 32 (tS (sTA x1 31 (tA x1 25)) 21)) 33 (tR (sTS (sTA x1 31 (tA x1 25)) 32 (tS (sTA x1 31 (tA x1 25)) 21)) 18)) 19)) 20)) 16))
theorem tmT_takesAll (l : Launch) (N : Nat) {w : tO} {A : Nat → Prop} (B : Nat × Nat) : ∀ (x : TS) (xr : TS), fT_takesAll N B x  = some xr → tMet l yX0_takesAll (ws_ yX0_takesAll cX0_takesAll 1 none) frT_takesAll loT_takesAll [.ref (wa w 37)] w A B x none xr := by
  intro x  xr hf
  refine t_start (cc := cX0_takesAll) (own := RX0) (by decide +kernel) rfl (Nat.le_of_ble_eq_true rfl) rfl ?_
  intro p e s m args below meth c ls H locs C hmn hI hl
  have hx := C.1.1
  have hb := C.1.2.1
  have hown := C.1.2.2.2.1
  have hts := C.1.2.2.2.2.1
  have hE := C.2.2
  rw [fT_takesAll] at hf
  refine lv_aload_n hx hb dX0_takesAll_0 rfl (lv_at hl 0 rfl) ?_
  refine tgX0_159 C hI dX0_takesAll_1 ?_
  refine lv_aload_n hx hb dX0_takesAll_4 rfl (lv_at hl 0 rfl) ?_
  refine tgX0_152 C hI dX0_takesAll_5 ?_
  refine t_cVv (rest := []) C hI hf (tmC_become l N B (tI.l3 hI (by decide)) (tI.l3 hI (by decide)) _) (rv_chain C hI (tI.l3 hI (by decide))) cqX0_C_become ⟨Nat.le_of_ble_eq_true rfl, Nat.le_of_ble_eq_true rfl⟩ rfl hl.1 rfl (Nat.le_of_ble_eq_true rfl) dX0_takesAll_8 (fun x1 H locs hI hf => ?_)
  refine lv_aload_n hx hb dX0_takesAll_11 rfl (lv_at hl 0 rfl) ?_
  refine tgX0_162 C hI dX0_takesAll_12 ?_
  refine lv_aload_n hx hb dX0_takesAll_15 rfl (lv_at hl 0 rfl) ?_
  refine tgX0_178 C hI dX0_takesAll_16 ?_
  refine tc_copA (k0 := 25) (k1 := 31) C hI rfl rfl (by decide) (by decide) (by decide) ⟨Nat.le_of_ble_eq_true rfl, Nat.le_of_ble_eq_true rfl⟩ hl.1 (Nat.le_of_ble_eq_true rfl) dX0_takesAll_19 (fun H locs hI => ?_)
  refine lv_aload_n hx hb dX0_takesAll_22 rfl (lv_at hl 0 rfl) ?_
  refine lv_aload_n hx hb dX0_takesAll_23 rfl (lv_at hl 0 rfl) ?_
  refine tgX0_346 C hI dX0_takesAll_24 ?_
  refine tpX0_609 C hI dX0_takesAll_27 (fun H locs hI => ?_)
  refine lv_aload_n hx hb dX0_takesAll_30 rfl (lv_at hl 0 rfl) ?_
  refine lv_aload_n hx hb dX0_takesAll_31 rfl (lv_at hl 0 rfl) ?_
  refine tgX0_131 C hI dX0_takesAll_32 ?_
  refine tpX0_612 C hI dX0_takesAll_35 (fun H locs hI => ?_)
  refine lv_aload_n hx hb dX0_takesAll_38 rfl (lv_at hl 0 rfl) ?_
  refine lv_aload_n hx hb dX0_takesAll_39 rfl (lv_at hl 0 rfl) ?_
  refine tgX0_137 C hI dX0_takesAll_40 ?_
  refine tpX0_615 C hI dX0_takesAll_43 (fun H locs hI => ?_)
  refine lv_aload_n hx hb dX0_takesAll_46 rfl (lv_at hl 0 rfl) ?_
  refine lv_aload_n hx hb dX0_takesAll_47 rfl (lv_at hl 0 rfl) ?_
  refine tgX0_143 C hI dX0_takesAll_48 ?_
  refine tpX0_618 C hI dX0_takesAll_51 (fun H locs hI => ?_)
  refine lv_aload_n hx hb dX0_takesAll_54 rfl (lv_at hl 0 rfl) ?_
  refine lv_aload_n hx hb dX0_takesAll_55 rfl (lv_at hl 0 rfl) ?_
  refine tgX0_121 C hI dX0_takesAll_56 ?_
  refine tpX0_621 C hI dX0_takesAll_59 (fun H locs hI => ?_)
  exact t_vret C hI hf dX0_takesAll_62
/-! TwelveChain.image(Z)Z -/
abbrev frT_image : Nat := 4
abbrev loT_image : Nat := 80
def fT_image_b13 (N : Nat) (B : Nat × Nat) (x : TS) (l1 : Int32) : Option (Int32 × TS) :=
  if l1 = 0 then
    (fT_goesBack N B x).bind fun x1 =>
    some (1, x1)
  else
    (fT_takesAll N B x).bind fun x2 =>
    some (1, x2)
theorem w_fT_image_b13 {N : Nat} {B : Nat × Nat} {r : Int32} {xr : TS} (C : tCx w A p s m args meth c cX0_image 2 RX0 (some .boolean)) : ∀ (x : TS) (l1 : Int32) (H : Heap) (locs : List Loc) (ls : Array Slot), tI w A B x s.heap H locs → lv_has ls 2 [(0, .ref (wa w 37)), (1, .int l1)] → fT_image_b13 N B x l1 = some (r, xr) → W p l e (tRm B frT_image loT_image s.heap.size (SL s.heap)) s m args below meth c H locs (tZ x - s.heap.size) (tY x - SL s.heap) (MQ below (tQ w A B (some (.int r)) xr) args s (B.1 - s.heap.size) (B.2 - SL s.heap) A) (F0 m 13 ls []) := by
  have hx := C.1.1
  have hb := C.1.2.1
  have hown := C.1.2.2.2.1
  have hts := C.1.2.2.2.2.1
  have hE := C.2.2
  intro x l1 H locs ls hI hl hf
  rw [fT_image_b13] at hf
  refine lv_iload_n hx hb dX0_image_13 rfl (lv_at hl 1 rfl) ?_
  refine b_ifeq (tgt := 24) hx hb hf dX0_image_14 (by decide) (fun hf => ?_) (fun hf => ?_)
  · refine lv_aload_n hx hb dX0_image_24 rfl (lv_at hl 0 rfl) ?_
    refine t_cVv (rest := []) C hI hf (tmT_goesBack l N B _) (rv_main C hI) cqX0_T_goesBack ⟨Nat.le_of_ble_eq_true rfl, Nat.le_of_ble_eq_true rfl⟩ rfl hl.1 rfl (Nat.le_of_ble_eq_true rfl) dX0_image_25 (fun x1 H locs hI hf => ?_)
    refine lv_iconst (v := 1) hx hb dX0_image_28 (by decide) ?_
    exact t_zretc C hI zb_1 hf dX0_image_29
  · refine lv_aload_n hx hb dX0_image_17 rfl (lv_at hl 0 rfl) ?_
    refine t_cVv (rest := []) C hI hf (tmT_takesAll l N B _) (rv_main C hI) cqX0_T_takesAll ⟨Nat.le_of_ble_eq_true rfl, Nat.le_of_ble_eq_true rfl⟩ rfl hl.1 rfl (Nat.le_of_ble_eq_true rfl) dX0_image_18 (fun x2 H locs hI hf => ?_)
    refine lv_goto (tgt := 28) hx hb dX0_image_21 (by decide) ?_
    refine lv_iconst (v := 1) hx hb dX0_image_28 (by decide) ?_
    exact t_zretc C hI zb_1 hf dX0_image_29
def fT_image (N : Nat) (B : Nat × Nat) (x : TS) (l1 : Int32) : Option (Int32 × TS) :=
  if l1 = 0 then
    if (tR x 36).isNone = true then
      some (0, x)
    else
      fT_image_b13 N B x l1
  else
    fT_image_b13 N B x l1
theorem tmT_image (l : Launch) (N : Nat) {w : tO} {A : Nat → Prop} (B : Nat × Nat) : ∀ (x : TS) (l1 : Int32) (r : Int32) (xr : TS), fT_image N B x l1 = some (r, xr) → tMet l yX0_image (ws_ yX0_image cX0_image 2 (some .boolean)) frT_image loT_image [.ref (wa w 37), .int l1] w A B x (some (.int r)) xr := by
  intro x l1 r xr hf
  refine t_start (cc := cX0_image) (own := RX0) (by decide +kernel) rfl (Nat.le_of_ble_eq_true rfl) rfl ?_
  intro p e s m args below meth c ls H locs C hmn hI hl
  have hx := C.1.1
  have hb := C.1.2.1
  have hown := C.1.2.2.2.1
  have hts := C.1.2.2.2.2.1
  have hE := C.2.2
  rw [fT_image] at hf
  refine lv_iload_n hx hb dX0_image_0 rfl (lv_at hl 1 rfl) ?_
  refine b_ifne (tgt := 13) hx hb hf dX0_image_1 (by decide) (fun hf => ?_) (fun hf => ?_)
  · exact w_fT_image_b13 C x l1 _ _ _ hI (lv_sub hl [0, 1] rfl) hf
  · refine lv_aload_n hx hb dX0_image_4 rfl (lv_at hl 0 rfl) ?_
    refine tgX0_621 C hI dX0_image_5 ?_
    refine b_ifnonnull (tgt := 13) hx hb hf dX0_image_8 (by decide) (fun hf => ?_) (fun hf => ?_)
    · exact w_fT_image_b13 C x l1 _ _ _ hI (lv_sub hl [0, 1] rfl) hf
    · refine lv_iconst (v := 0) hx hb dX0_image_11 (by decide) ?_
      exact t_zretc C hI zb_0 hf dX0_image_12
/-! TwelveChain.partMany()I -/
abbrev frT_partMany : Nat := 2
abbrev loT_partMany : Nat := 43
def fT_partMany_b4 (N : Nat) (B : Nat × Nat) : Nat → TS → Int32 → Int32 → Option (Int32 × TS)
  | 0, _, _, _ => none
  | n + 1, x, l1, l2 =>
  if (tS x 21) ≤ l2 then
    some (l1, x)
  else
    b2 (fC_beginsPart N B x 0 l2 (tF x 0 7)) fun v2 x1 =>
    lt (if v2 = 0 then 0 else 1 : Int32) fun v3 =>
    fT_partMany_b4 N B n x1 (l1 + v3) (l2 + 1)
theorem w_fT_partMany_b4 {N : Nat} {B : Nat × Nat} {r : Int32} {xr : TS} (C : tCx w A p s m args meth c cX0_partMany 3 RX0 (some .int)) : ∀ (n : Nat) (x : TS) (l1 : Int32) (l2 : Int32) (H : Heap) (locs : List Loc) (ls : Array Slot), tI w A B x s.heap H locs → lv_has ls 3 [(0, .ref (wa w 37)), (1, .int l1), (2, .int l2)] → fT_partMany_b4 N B n x l1 l2 = some (r, xr) → W p l e (tRm B frT_partMany loT_partMany s.heap.size (SL s.heap)) s m args below meth c H locs (tZ x - s.heap.size) (tY x - SL s.heap) (MQ below (tQ w A B (some (.int r)) xr) args s (B.1 - s.heap.size) (B.2 - SL s.heap) A) (F0 m 4 ls []) := by
  have hx := C.1.1
  have hb := C.1.2.1
  have hown := C.1.2.2.2.1
  have hts := C.1.2.2.2.2.1
  have hE := C.2.2
  intro n
  induction n with
  | zero => intro x l1 l2 H locs ls hI hl hf; rw [fT_partMany_b4] at hf; cases hf
  | succ n ih =>
  intro x l1 l2 H locs ls hI hl hf
  rw [fT_partMany_b4] at hf
  refine lv_iload_n hx hb dX0_partMany_4 rfl (lv_at hl 2 rfl) ?_
  refine lv_aload_n hx hb dX0_partMany_5 rfl (lv_at hl 0 rfl) ?_
  refine tgX0_346 C hI dX0_partMany_6 ?_
  refine b_icge (tgt := 44) hx hb hf dX0_partMany_9 (by decide) (fun hf => ?_) (fun hf => ?_)
  · refine lv_iload_n hx hb dX0_partMany_44 rfl (lv_at hl 1 rfl) ?_
    exact t_iret C hI hf dX0_partMany_45
  · refine lv_iload_n hx hb dX0_partMany_12 rfl (lv_at hl 1 rfl) ?_
    refine lv_aload_n hx hb dX0_partMany_13 rfl (lv_at hl 0 rfl) ?_
    refine tgX0_152 C hI dX0_partMany_14 ?_
    refine lv_iload_n hx hb dX0_partMany_17 rfl (lv_at hl 2 rfl) ?_
    refine lv_aload_n hx hb dX0_partMany_18 rfl (lv_at hl 0 rfl) ?_
    refine tgX0_152 C hI dX0_partMany_19 ?_
    refine tgX0_420 C hI (tI.l3 hI (by decide)) dX0_partMany_22 ?_
    refine t_cVi (rest := [.int l1]) C hI hf (tmC_beginsPart l N B (tI.l3 hI (by decide)) _ _ _) (rv_chain C hI (tI.l3 hI (by decide))) cqX0_C_beginsPart ⟨Nat.le_of_ble_eq_true rfl, Nat.le_of_ble_eq_true rfl⟩ rfl hl.1 rfl (Nat.le_of_ble_eq_true rfl) dX0_partMany_25 (fun v2 x1 H locs hI hf => ?_)
    suffices hJ : ∀ v3 : Int32, (v3 = (if v2 = 0 then 0 else 1 : Int32)) → W p l e (tRm B frT_partMany loT_partMany s.heap.size (SL s.heap)) s m args below meth c H locs (tZ x1 - s.heap.size) (tY x1 - SL s.heap) (MQ below (tQ w A B (some (.int r)) xr) args s (B.1 - s.heap.size) (B.2 - SL s.heap) A) (F0 m 36 ls [.int v3, .int l1]) by
      refine lv_if_eq (tgt := 35) hx hb dX0_partMany_28 (by decide) (fun hc => ?_) (fun hc => ?_)
      · refine lv_iconst (v := 0) hx hb dX0_partMany_35 (by decide) ?_
        exact hJ _ (if_pos hc).symm
      · refine lv_iconst (v := 1) hx hb dX0_partMany_31 (by decide) ?_
        refine lv_goto (tgt := 36) hx hb dX0_partMany_32 (by decide) ?_
        exact hJ _ (if_neg hc).symm
    intro v3 hv
    have hf := lt_of hv hf
    refine lv_iadd hx hb dX0_partMany_36 ?_
    refine lv_istore_n (lv' := [(1, .int (l1 + v3)), (0, .ref (wa w 37)), (2, .int l2)]) hx hb dX0_partMany_37 rfl hl (by decide) rfl (fun ls hl => ?_)
    refine lv_iinc (v := l2 + 1) (lv' := [(2, .int (l2 + 1)), (1, .int (l1 + v3)), (0, .ref (wa w 37))]) hx hb dX0_partMany_38 hl (k := 2) rfl rfl (by decide) rfl (fun ls hl => ?_)
    refine lv_goto (tgt := 4) hx hb dX0_partMany_41 (by decide) ?_
    exact ih x1 (l1 + v3) (l2 + 1) _ _ _ hI (lv_sub hl [2, 1, 0] rfl) hf
def fT_partMany (N : Nat) (B : Nat × Nat) (x : TS) : Option (Int32 × TS) :=
  fT_partMany_b4 N B N x 0 0
theorem tmT_partMany (l : Launch) (N : Nat) {w : tO} {A : Nat → Prop} (B : Nat × Nat) : ∀ (x : TS) (r : Int32) (xr : TS), fT_partMany N B x  = some (r, xr) → tMet l yX0_partMany (ws_ yX0_partMany cX0_partMany 3 (some .int)) frT_partMany loT_partMany [.ref (wa w 37)] w A B x (some (.int r)) xr := by
  intro x  r xr hf
  refine t_start (cc := cX0_partMany) (own := RX0) (by decide +kernel) rfl (Nat.le_of_ble_eq_true rfl) rfl ?_
  intro p e s m args below meth c ls H locs C hmn hI hl
  have hx := C.1.1
  have hb := C.1.2.1
  have hown := C.1.2.2.2.1
  have hts := C.1.2.2.2.2.1
  have hE := C.2.2
  rw [fT_partMany] at hf
  refine lv_iconst (v := 0) hx hb dX0_partMany_0 (by decide) ?_
  refine lv_istore_n (lv' := [(1, .int 0), (0, .ref (wa w 37))]) hx hb dX0_partMany_1 rfl hl (by decide) rfl (fun ls hl => ?_)
  refine lv_iconst (v := 0) hx hb dX0_partMany_2 (by decide) ?_
  refine lv_istore_n (lv' := [(2, .int 0), (1, .int 0), (0, .ref (wa w 37))]) hx hb dX0_partMany_3 rfl hl (by decide) rfl (fun ls hl => ?_)
  exact w_fT_partMany_b4 C N x 0 0 _ _ _ hI (lv_sub hl [2, 1, 0] rfl) hf
/-! TwelveChain.look(I)I -/
abbrev frT_look : Nat := 3
abbrev loT_look : Nat := 65
def fT_look (N : Nat) (B : Nat × Nat) (x : TS) (l1 : Int32) : Option (Int32 × TS) :=
  if l1 = 0 then
    some (tS x 21, x)
  else if l1 = 1 then
    some (tF x 0 8, x)
  else if l1 = 2 then
    some (tF x 0 9, x)
  else if l1 = 3 then
    b2 (fC_movedSet N B x 0) fun v6 x5 =>
    some (v6, x5)
  else if l1 = 4 then
    some (tF x 0 7, x)
  else if l1 = 5 then
    b2 (fT_partMany N B x) fun v10 x9 =>
    some (v10, x9)
  else if l1 = 6 then
    some (tF x 0 11, x)
  else if l1 = 7 then
    some (tF x 0 10, x)
  else if l1 = 8 then
    (tR x 16).bind fun q14 =>
    (dgI x q14 2 3).bind fun v15 =>
    some (v15, x)
  else if l1 = 9 then
    (tR x 18).bind fun q17 =>
    (dlR x q17 5).bind fun v18 =>
    some (v18, x)
  else if l1 = 10 then
    (tR x 19).bind fun q20 =>
    (dlR x q20 6).bind fun v21 =>
    some (v21, x)
  else if l1 = 11 then
    (tR x 20).bind fun q23 =>
    (dlR x q23 7).bind fun v24 =>
    some (v24, x)
  else if l1 = 12 then
    some (tS x 27, x)
  else 
    some ((-1), x)
theorem tmT_look (l : Launch) (N : Nat) {w : tO} {A : Nat → Prop} (B : Nat × Nat) : ∀ (x : TS) (l1 : Int32) (r : Int32) (xr : TS), fT_look N B x l1 = some (r, xr) → tMet l yX0_look (ws_ yX0_look cX0_look 2 (some .int)) frT_look loT_look [.ref (wa w 37), .int l1] w A B x (some (.int r)) xr := by
  intro x l1 r xr hf
  refine t_start (cc := cX0_look) (own := RX0) (by decide +kernel) rfl (Nat.le_of_ble_eq_true rfl) rfl ?_
  intro p e s m args below meth c ls H locs C hmn hI hl
  have hx := C.1.1
  have hb := C.1.2.1
  have hown := C.1.2.2.2.1
  have hts := C.1.2.2.2.2.1
  have hE := C.2.2
  rw [fT_look] at hf
  refine lv_iload_n hx hb dX0_look_0 rfl (lv_at hl 1 rfl) ?_
  refine b_tIn (k := 0) (j := 0) (tgt := 68) hx hb hf dX0_look_1 (by decide +kernel) rfl (by decide) (fun hf => ?_) (fun h1 hf => ?_)
  · refine lv_aload_n hx hb dX0_look_68 rfl (lv_at hl 0 rfl) ?_
    refine tgX0_346 C hI dX0_look_69 ?_
    exact t_iret C hI hf dX0_look_72
  refine b_tIn (k := 1) (j := 1) (tgt := 73) hx hb hf dX0_look_1 (by decide +kernel) rfl (by decide) (fun hf => ?_) (fun h2 hf => ?_)
  · refine lv_aload_n hx hb dX0_look_73 rfl (lv_at hl 0 rfl) ?_
    refine tgX0_152 C hI dX0_look_74 ?_
    refine tgX0_395 C hI (tI.l3 hI (by decide)) dX0_look_77 ?_
    exact t_iret C hI hf dX0_look_80
  refine b_tIn (k := 2) (j := 2) (tgt := 81) hx hb hf dX0_look_1 (by decide +kernel) rfl (by decide) (fun hf => ?_) (fun h3 hf => ?_)
  · refine lv_aload_n hx hb dX0_look_81 rfl (lv_at hl 0 rfl) ?_
    refine tgX0_152 C hI dX0_look_82 ?_
    refine tgX0_511 C hI (tI.l3 hI (by decide)) dX0_look_85 ?_
    exact t_iret C hI hf dX0_look_88
  refine b_tIn (k := 3) (j := 3) (tgt := 89) hx hb hf dX0_look_1 (by decide +kernel) rfl (by decide) (fun hf => ?_) (fun h4 hf => ?_)
  · refine lv_aload_n hx hb dX0_look_89 rfl (lv_at hl 0 rfl) ?_
    refine tgX0_152 C hI dX0_look_90 ?_
    refine t_cVi (rest := []) C hI hf (tmC_movedSet l N B (tI.l3 hI (by decide)) _) (rv_chain C hI (tI.l3 hI (by decide))) cqX0_C_movedSet ⟨Nat.le_of_ble_eq_true rfl, Nat.le_of_ble_eq_true rfl⟩ rfl hl.1 rfl (Nat.le_of_ble_eq_true rfl) dX0_look_93 (fun v6 x5 H locs hI hf => ?_)
    exact t_iret C hI hf dX0_look_96
  refine b_tIn (k := 4) (j := 4) (tgt := 97) hx hb hf dX0_look_1 (by decide +kernel) rfl (by decide) (fun hf => ?_) (fun h7 hf => ?_)
  · refine lv_aload_n hx hb dX0_look_97 rfl (lv_at hl 0 rfl) ?_
    refine tgX0_152 C hI dX0_look_98 ?_
    refine tgX0_420 C hI (tI.l3 hI (by decide)) dX0_look_101 ?_
    exact t_iret C hI hf dX0_look_104
  refine b_tIn (k := 5) (j := 5) (tgt := 105) hx hb hf dX0_look_1 (by decide +kernel) rfl (by decide) (fun hf => ?_) (fun h8 hf => ?_)
  · refine lv_aload_n hx hb dX0_look_105 rfl (lv_at hl 0 rfl) ?_
    refine t_cVi (rest := []) C hI hf (tmT_partMany l N B _) (rv_main C hI) cqX0_T_partMany ⟨Nat.le_of_ble_eq_true rfl, Nat.le_of_ble_eq_true rfl⟩ rfl hl.1 rfl (Nat.le_of_ble_eq_true rfl) dX0_look_106 (fun v10 x9 H locs hI hf => ?_)
    exact t_iret C hI hf dX0_look_109
  refine b_tIn (k := 6) (j := 6) (tgt := 110) hx hb hf dX0_look_1 (by decide +kernel) rfl (by decide) (fun hf => ?_) (fun h11 hf => ?_)
  · refine lv_aload_n hx hb dX0_look_110 rfl (lv_at hl 0 rfl) ?_
    refine tgX0_152 C hI dX0_look_111 ?_
    refine tgX0_392 C hI (tI.l3 hI (by decide)) dX0_look_114 ?_
    exact t_iret C hI hf dX0_look_117
  refine b_tIn (k := 7) (j := 7) (tgt := 118) hx hb hf dX0_look_1 (by decide +kernel) rfl (by decide) (fun hf => ?_) (fun h12 hf => ?_)
  · refine lv_aload_n hx hb dX0_look_118 rfl (lv_at hl 0 rfl) ?_
    refine tgX0_152 C hI dX0_look_119 ?_
    refine tgX0_401 C hI (tI.l3 hI (by decide)) dX0_look_122 ?_
    exact t_iret C hI hf dX0_look_125
  refine b_tIn (k := 8) (j := 8) (tgt := 126) hx hb hf dX0_look_1 (by decide +kernel) rfl (by decide) (fun hf => ?_) (fun h13 hf => ?_)
  · refine lv_aload_n hx hb dX0_look_126 rfl (lv_at hl 0 rfl) ?_
    refine tgX0_121 C hI dX0_look_127 ?_
    refine t_nn (g := F0 m 130 ls) hf (fun q14 _ hf => ?_)
    refine tgX0_316 C hI hf dX0_look_130 (fun v15 hf => ?_)
    exact t_iret C hI hf dX0_look_133
  refine b_tIn (k := 9) (j := 9) (tgt := 134) hx hb hf dX0_look_1 (by decide +kernel) rfl (by decide) (fun hf => ?_) (fun h16 hf => ?_)
  · refine lv_aload_n hx hb dX0_look_134 rfl (lv_at hl 0 rfl) ?_
    refine tgX0_131 C hI dX0_look_135 ?_
    refine t_nn (g := F0 m 138 ls) hf (fun q17 _ hf => ?_)
    refine t_dlen (code := 5) C hI hf rfl dX0_look_138 (fun v18 hf => ?_)
    exact t_iret C hI hf dX0_look_139
  refine b_tIn (k := 10) (j := 10) (tgt := 140) hx hb hf dX0_look_1 (by decide +kernel) rfl (by decide) (fun hf => ?_) (fun h19 hf => ?_)
  · refine lv_aload_n hx hb dX0_look_140 rfl (lv_at hl 0 rfl) ?_
    refine tgX0_137 C hI dX0_look_141 ?_
    refine t_nn (g := F0 m 144 ls) hf (fun q20 _ hf => ?_)
    refine t_dlen (code := 6) C hI hf rfl dX0_look_144 (fun v21 hf => ?_)
    exact t_iret C hI hf dX0_look_145
  refine b_tIn (k := 11) (j := 11) (tgt := 146) hx hb hf dX0_look_1 (by decide +kernel) rfl (by decide) (fun hf => ?_) (fun h22 hf => ?_)
  · refine lv_aload_n hx hb dX0_look_146 rfl (lv_at hl 0 rfl) ?_
    refine tgX0_143 C hI dX0_look_147 ?_
    refine t_nn (g := F0 m 150 ls) hf (fun q23 _ hf => ?_)
    refine t_dlen (code := 7) C hI hf rfl dX0_look_150 (fun v24 hf => ?_)
    exact t_iret C hI hf dX0_look_151
  refine b_tIn (k := 12) (j := 12) (tgt := 152) hx hb hf dX0_look_1 (by decide +kernel) rfl (by decide) (fun hf => ?_) (fun h25 hf => ?_)
  · refine lv_aload_n hx hb dX0_look_152 rfl (lv_at hl 0 rfl) ?_
    refine tgX0_377 C hI dX0_look_153 ?_
    exact t_iret C hI hf dX0_look_156
  have h1 : l1.toInt ≠ 0 := sw_ne h1
  have h2 : l1.toInt ≠ 1 := sw_ne h2
  have h3 : l1.toInt ≠ 2 := sw_ne h3
  have h4 : l1.toInt ≠ 3 := sw_ne h4
  have h7 : l1.toInt ≠ 4 := sw_ne h7
  have h8 : l1.toInt ≠ 5 := sw_ne h8
  have h11 : l1.toInt ≠ 6 := sw_ne h11
  have h12 : l1.toInt ≠ 7 := sw_ne h12
  have h13 : l1.toInt ≠ 8 := sw_ne h13
  have h16 : l1.toInt ≠ 9 := sw_ne h16
  have h19 : l1.toInt ≠ 10 := sw_ne h19
  have h22 : l1.toInt ≠ 11 := sw_ne h22
  have h25 : l1.toInt ≠ 12 := sw_ne h25
  refine lv_tableOut (tgt := 157) hx hb dX0_look_1 (by omega) (by decide) ?_
  refine lv_iconst (v := (-1)) hx hb dX0_look_157 (by decide) ?_
  exact t_iret C hI hf dX0_look_158
