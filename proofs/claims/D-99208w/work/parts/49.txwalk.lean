set_option maxRecDepth 100000
variable {p : Program} {l : Launch} {e : Env} {R : Room} {s : State} {m : MethodId} {args : Array Value} {below : List Frame} {meth : Method} {c : Code} {H : Heap} {locs : List Loc} {Q : State → Prop}
variable {w : tO} {A : Nat → Prop}
/-! TwelveChain.must(Z)V -/
abbrev frT_must : Nat := 4
abbrev loT_must : Nat := 142
def fT_must (N : Nat) (B : Nat × Nat) (x : TS) (l1 : Int32) : Option (XR Unit) :=
  if l1 = 0 then
    b2 (alc B x 8 (dO 4 [.null, .null, .null, .null, .null, .int 0, .int 0, .int 0])) fun q1 x2 =>
    (fFa_init x2 q1 1 (tS x2 11)).bind fun x3 =>
    gO x3 q1 4 (some (Sum.inl q1, x3))
  else
    some (Sum.inr (), x)
theorem tmT_must (l : Launch) (N : Nat) {w : tO} {A : Nat → Prop} (B : Nat × Nat) : ∀ (x : TS) (l1 : Int32) (r : Nat ⊕ Unit) (xr : TS), fT_must N B x l1 = some (r, xr) → xMet l yX0_must (ws_ yX0_must cX0_must 2 none) frT_must loT_must [.ref (wa w 37), .int l1] w A B x (mv r) xr := by
  intro x l1 r xr hf
  refine x_start (cc := cX0_must) (own := RX0) (by decide +kernel) rfl (Nat.le_of_ble_eq_true rfl) rfl ?_
  intro p e s m args below meth c ls H locs C hxt hI hl
  have hx := C.1.1
  have hb := C.1.2.1
  have hown := C.1.2.2.2.1
  have hts := C.1.2.2.2.2.1
  have hE := C.2.2
  rw [fT_must] at hf
  refine lv_iload_n hx hb dX0_must_0 rfl (lv_at hl 1 rfl) ?_
  refine b_ifne (tgt := 17) hx hb hf dX0_must_1 (by decide) (fun hf => ?_) (fun hf => ?_)
  · exact x_vret C hI hf dX0_must_17
  · refine t_new C hI hf rfl in_X4 tyX4 tyX4_ok q441 q600 q167 dfX4 dX0_must_4 (fun q1 x2 H locs hI hf => ?_)
    refine lv_dup hx hb dX0_must_7 rfl ?_
    refine lv_iconst (v := 1) hx hb dX0_must_8 (by decide) ?_
    refine lv_aload_n hx hb dX0_must_9 rfl (lv_at hl 0 rfl) ?_
    refine tgX0_199 C hI dX0_must_10 ?_
    refine t_cIv (rest := [.ref q1]) C hI hf (tmFa_init l _ _ _ _) rfl q637 q636 cn_Fa_init ⟨Nat.le_of_ble_eq_true rfl, Nat.le_of_ble_eq_true rfl⟩ rfl hl.1 rfl (Nat.le_of_ble_eq_true rfl) dX0_must_13 (fun x3 H locs hI hf => ?_)
    exact x_athrow (mk := mv) (fun _ => rfl) C hxt hI hf dX0_must_16
/-! TwelveChain.opens()V -/
abbrev frT_opens : Nat := 7
abbrev loT_opens : Nat := 150
def fT_opens (N : Nat) (B : Nat × Nat) (x : TS) : Option (XR Unit) :=
  if (tS x 13) = 8 then
    b2 (alc B x 8 (dO 4 [.null, .null, .null, .null, .null, .int 0, .int 0, .int 0])) fun q2 x3 =>
    (fFa_init x3 q2 3 (tS x3 11)).bind fun x4 =>
    gO x4 q2 4 (some (Sum.inl q2, x4))
  else
    (fT_readNext N B (sTS x 13 ((tS x 13) + 1))).bind fun x1 =>
    some (Sum.inr (), x1)
theorem tmT_opens (l : Launch) (N : Nat) {w : tO} {A : Nat → Prop} (B : Nat × Nat) : ∀ (x : TS) (r : Nat ⊕ Unit) (xr : TS), fT_opens N B x  = some (r, xr) → xMet l yX0_opens (ws_ yX0_opens cX0_opens 1 none) frT_opens loT_opens [.ref (wa w 37)] w A B x (mv r) xr := by
  intro x  r xr hf
  refine x_start (cc := cX0_opens) (own := RX0) (by decide +kernel) rfl (Nat.le_of_ble_eq_true rfl) rfl ?_
  intro p e s m args below meth c ls H locs C hxt hI hl
  have hx := C.1.1
  have hb := C.1.2.1
  have hown := C.1.2.2.2.1
  have hts := C.1.2.2.2.2.1
  have hE := C.2.2
  rw [fT_opens] at hf
  refine lv_aload_n hx hb dX0_opens_0 rfl (lv_at hl 0 rfl) ?_
  refine tgX0_287 C hI dX0_opens_1 ?_
  refine lv_bipush (v := 8) hx hb dX0_opens_4 (by decide) ?_
  refine b_icne (tgt := 22) hx hb hf dX0_opens_6 (by decide) (fun hf => ?_) (fun hf => ?_)
  · refine lv_aload_n hx hb dX0_opens_22 rfl (lv_at hl 0 rfl) ?_
    refine lv_dup hx hb dX0_opens_23 rfl ?_
    refine tgX0_287 C hI dX0_opens_24 ?_
    refine lv_iconst (v := 1) hx hb dX0_opens_27 (by decide) ?_
    refine lv_iadd hx hb dX0_opens_28 ?_
    refine tpX0_287 C hI dX0_opens_29 (fun H locs hI => ?_)
    refine lv_aload_n hx hb dX0_opens_32 rfl (lv_at hl 0 rfl) ?_
    refine t_cVv (rest := []) C hI hf (tmT_readNext l N B _) (rv_main C hI) cqX0_T_readNext ⟨Nat.le_of_ble_eq_true rfl, Nat.le_of_ble_eq_true rfl⟩ rfl hl.1 rfl (Nat.le_of_ble_eq_true rfl) dX0_opens_33 (fun x1 H locs hI hf => ?_)
    exact x_vret C hI hf dX0_opens_36
  · refine t_new C hI hf rfl in_X4 tyX4 tyX4_ok q441 q600 q167 dfX4 dX0_opens_9 (fun q2 x3 H locs hI hf => ?_)
    refine lv_dup hx hb dX0_opens_12 rfl ?_
    refine lv_iconst (v := 3) hx hb dX0_opens_13 (by decide) ?_
    refine lv_aload_n hx hb dX0_opens_14 rfl (lv_at hl 0 rfl) ?_
    refine tgX0_199 C hI dX0_opens_15 ?_
    refine t_cIv (rest := [.ref q2]) C hI hf (tmFa_init l _ _ _ _) rfl q637 q636 cn_Fa_init ⟨Nat.le_of_ble_eq_true rfl, Nat.le_of_ble_eq_true rfl⟩ rfl hl.1 rfl (Nat.le_of_ble_eq_true rfl) dX0_opens_18 (fun x4 H locs hI hf => ?_)
    exact x_athrow (mk := mv) (fun _ => rfl) C hxt hI hf dX0_opens_21
/-! TwelveChain.unit()LTwelveChain$Term; -/
abbrev frT_unit : Nat := 7
abbrev loT_unit : Nat := 163
def fT_unit (N : Nat) (B : Nat × Nat) (x : TS) : Option (XR Nat) :=
  (tok (tW x 9)).bind fun k1 =>
  if k1 = 3 then
    (fT_readNext N B x).bind fun x10 =>
    b2 (alc B x10 1 (dO 5 [.int 0])) fun q11 x12 =>
    (fNu_init N B x12 q11 (tS x 12)).bind fun x13 =>
    some (Sum.inr q11, x13)
  else
    b2 (fT_wordOf N B x (tW x 7)) fun v3 x2 =>
    lt (if v3 = (-1) then 0 else 1 : Int32) fun v4 =>
    bx (fT_must N B x2 v4) fun _ x5 =>
    (fT_readNext N B x5).bind fun x6 =>
    b2 (alc B x6 1 (dO 6 [.int 0])) fun q7 x8 =>
    (fWo_init N B x8 q7 v3).bind fun x9 =>
    some (Sum.inr q7, x9)
theorem tmT_unit (l : Launch) (N : Nat) {w : tO} {A : Nat → Prop} (B : Nat × Nat) : ∀ (x : TS) (r : Nat ⊕ Nat) (xr : TS), fT_unit N B x  = some (r, xr) → xMet l yX0_unit (ws_ yX0_unit cX0_unit 2 (some (.object "TwelveChain$Term"))) frT_unit loT_unit [.ref (wa w 37)] w A B x (ma r) xr := by
  intro x  r xr hf
  refine x_start (cc := cX0_unit) (own := RX0) (by decide +kernel) rfl (Nat.le_of_ble_eq_true rfl) rfl ?_
  intro p e s m args below meth c ls H locs C hxt hI hl
  have hx := C.1.1
  have hb := C.1.2.1
  have hown := C.1.2.2.2.1
  have hts := C.1.2.2.2.2.1
  have hE := C.2.2
  rw [fT_unit] at hf
  refine lv_aload_n hx hb dX0_unit_0 rfl (lv_at hl 0 rfl) ?_
  refine t_tok C hI hf q316 dX0_unit_1 (fun k1 hi_k1 hf => ?_)
  refine t_gtok (i := 3) C hI (by decide) rfl q530 dX0_unit_4 ?_
  refine b_acne (i := k1) (j := 3) (tgt := 28) C hi_k1 (by decide) hf dX0_unit_7 (by decide) (fun hf => ?_) (fun hf => ?_)
  · refine lv_aload_n hx hb dX0_unit_28 rfl (lv_at hl 0 rfl) ?_
    refine lv_aload_n hx hb dX0_unit_29 rfl (lv_at hl 0 rfl) ?_
    refine tgX0_108 C hI dX0_unit_30 ?_
    refine t_cVi (rest := []) C hI hf (tmT_wordOf l N B _ _) (rv_main C hI) cqX0_T_wordOf ⟨Nat.le_of_ble_eq_true rfl, Nat.le_of_ble_eq_true rfl⟩ rfl hl.1 rfl (Nat.le_of_ble_eq_true rfl) dX0_unit_33 (fun v3 x2 H locs hI hf => ?_)
    refine lv_istore_n (lv' := [(1, .int v3), (0, .ref (wa w 37))]) hx hb dX0_unit_36 rfl hl (by decide) rfl (fun ls hl => ?_)
    refine lv_aload_n hx hb dX0_unit_37 rfl (lv_at hl 1 rfl) ?_
    refine lv_iload_n hx hb dX0_unit_38 rfl (lv_at hl 0 rfl) ?_
    refine lv_iconst (v := (-1)) hx hb dX0_unit_39 (by decide) ?_
    suffices hJ : ∀ v4 : Int32, (v4 = (if v3 = (-1) then 0 else 1 : Int32)) → W p l e (tRm B frT_unit loT_unit s.heap.size (SL s.heap)) s m args below meth c H locs (tZ x2 - s.heap.size) (tY x2 - SL s.heap) (xMQ below w A B (ma r) xr args s) (F0 m 48 ls [.int v4, .ref (wa w 37)]) by
      refine lv_icmp_eq (tgt := 47) hx hb dX0_unit_40 (by decide) (fun hc => ?_) (fun hc => ?_)
      · refine lv_iconst (v := 0) hx hb dX0_unit_47 (by decide) ?_
        exact hJ _ (if_pos hc).symm
      · refine lv_iconst (v := 1) hx hb dX0_unit_43 (by decide) ?_
        refine lv_goto (tgt := 48) hx hb dX0_unit_44 (by decide) ?_
        exact hJ _ (if_neg hc).symm
    intro v4 hv
    have hf := lt_of hv hf
    refine x_cVv (rest := []) (mr := ma) (fun _ => rfl) C hxt hI hf (tmT_must l N B _ _) rfl cqX0_T_must ⟨Nat.le_of_ble_eq_true rfl, Nat.le_of_ble_eq_true rfl⟩ rfl hl.1 rfl (Nat.le_of_ble_eq_true rfl) dX0_unit_48 (fun x5 H locs hI hf => ?_)
    refine lv_aload_n hx hb dX0_unit_51 rfl (lv_at hl 1 rfl) ?_
    refine t_cVv (rest := []) C hI hf (tmT_readNext l N B _) (rv_main C hI) cqX0_T_readNext ⟨Nat.le_of_ble_eq_true rfl, Nat.le_of_ble_eq_true rfl⟩ rfl hl.1 rfl (Nat.le_of_ble_eq_true rfl) dX0_unit_52 (fun x6 H locs hI hf => ?_)
    refine t_new C hI hf rfl in_X7 tyX7 tyX7_ok q695 q696 q170 dfX7 dX0_unit_55 (fun q7 x8 H locs hI hf => ?_)
    refine lv_dup hx hb dX0_unit_58 rfl ?_
    refine lv_iload_n hx hb dX0_unit_59 rfl (lv_at hl 0 rfl) ?_
    refine t_cIv (rest := [.ref q7]) C hI hf (tmWo_init l N B _ _ _) rfl q698 q697 cn_Wo_init ⟨Nat.le_of_ble_eq_true rfl, Nat.le_of_ble_eq_true rfl⟩ rfl hl.1 rfl (Nat.le_of_ble_eq_true rfl) dX0_unit_60 (fun x9 H locs hI hf => ?_)
    exact x_aret C hI hf dX0_unit_63
  · refine lv_aload_n hx hb dX0_unit_10 rfl (lv_at hl 0 rfl) ?_
    refine tgX0_224 C hI dX0_unit_11 ?_
    refine lv_istore_n (lv' := [(1, .int (tS x 12)), (0, .ref (wa w 37))]) hx hb dX0_unit_14 rfl hl (by decide) rfl (fun ls hl => ?_)
    refine lv_aload_n hx hb dX0_unit_15 rfl (lv_at hl 1 rfl) ?_
    refine t_cVv (rest := []) C hI hf (tmT_readNext l N B _) (rv_main C hI) cqX0_T_readNext ⟨Nat.le_of_ble_eq_true rfl, Nat.le_of_ble_eq_true rfl⟩ rfl hl.1 rfl (Nat.le_of_ble_eq_true rfl) dX0_unit_16 (fun x10 H locs hI hf => ?_)
    refine t_new C hI hf rfl in_X6 tyX6 tyX6_ok q682 q683 q169 dfX6 dX0_unit_19 (fun q11 x12 H locs hI hf => ?_)
    refine lv_dup hx hb dX0_unit_22 rfl ?_
    refine lv_iload_n hx hb dX0_unit_23 rfl (lv_at hl 0 rfl) ?_
    refine t_cIv (rest := [.ref q11]) C hI hf (tmNu_init l N B _ _ _) rfl q685 q684 cn_Nu_init ⟨Nat.le_of_ble_eq_true rfl, Nat.le_of_ble_eq_true rfl⟩ rfl hl.1 rfl (Nat.le_of_ble_eq_true rfl) dX0_unit_24 (fun x13 H locs hI hf => ?_)
    exact x_aret C hI hf dX0_unit_27
/-! TwelveChain.product()LTwelveChain$Term; -/
abbrev frT_product : Nat := 8
abbrev loT_product : Nat := 184
def fT_product_b78 (N : Nat) (B : Nat × Nat) (k5 : TS → Nat → Option (XR Nat)) (x : TS) (l1 : Nat) (l2 : Int32) : Option (XR Nat) :=
  b2 (alc B x 3 (dO 7 [.int 0, .null, .null])) fun q1 x2 =>
  bx (fT_unit N B x2) fun q4 x3 =>
  (fTw_init N B x3 q1 l2 l1 q4).bind fun x5 =>
  k5 x5 q1
theorem w_fT_product_b78 {N : Nat} {B : Nat × Nat} {r : Nat ⊕ Nat} {xr : TS} {k5 : TS → Nat → Option (XR Nat)} (C : tCx w A p s m args meth c cX0_product 3 RX0 (some (.object "TwelveChain$Term"))) (hxt : ∀ z ∈ c.exceptionTable.toList, False) (hk5 : ∀ (x : TS) (l1 : Nat) (H : Heap) (locs : List Loc) (ls : Array Slot), tI w A B x s.heap H locs → lv_has ls 3 [(0, .ref (wa w 37)), (1, .ref l1)] → k5 x l1 = some (r, xr) → W p l e (tRm B frT_product loT_product s.heap.size (SL s.heap)) s m args below meth c H locs (tZ x - s.heap.size) (tY x - SL s.heap) (xMQ below w A B (ma r) xr args s) (F0 m 5 ls [])) : ∀ (x : TS) (l1 : Nat) (l2 : Int32) (H : Heap) (locs : List Loc) (ls : Array Slot), tI w A B x s.heap H locs → lv_has ls 3 [(0, .ref (wa w 37)), (1, .ref l1), (2, .int l2)] → fT_product_b78 N B k5 x l1 l2 = some (r, xr) → W p l e (tRm B frT_product loT_product s.heap.size (SL s.heap)) s m args below meth c H locs (tZ x - s.heap.size) (tY x - SL s.heap) (xMQ below w A B (ma r) xr args s) (F0 m 78 ls []) := by
  have hx := C.1.1
  have hb := C.1.2.1
  have hown := C.1.2.2.2.1
  have hts := C.1.2.2.2.2.1
  have hE := C.2.2
  intro x l1 l2 H locs ls hI hl hf
  rw [fT_product_b78] at hf
  refine t_new C hI hf rfl in_X8 tyX8 tyX8_ok q709 q710 q171 dfX8 dX0_product_78 (fun q1 x2 H locs hI hf => ?_)
  refine lv_dup hx hb dX0_product_81 rfl ?_
  refine lv_iload_n hx hb dX0_product_82 rfl (lv_at hl 2 rfl) ?_
  refine lv_aload_n hx hb dX0_product_83 rfl (lv_at hl 1 rfl) ?_
  refine lv_aload_n hx hb dX0_product_84 rfl (lv_at hl 0 rfl) ?_
  refine x_cVr (rest := [.ref l1, .int l2, .ref q1, .ref q1]) (mr := ma) (fun _ => rfl) C hxt hI hf (tmT_unit l N B _) rfl cqX0_T_unit ⟨Nat.le_of_ble_eq_true rfl, Nat.le_of_ble_eq_true rfl⟩ rfl hl.1 rfl (Nat.le_of_ble_eq_true rfl) dX0_product_85 (fun q4 x3 H locs hI hf => ?_)
  refine t_cIv (rest := [.ref q1]) C hI hf (tmTw_init l N B _ _ _ _ _) rfl q712 q711 cn_Tw_init ⟨Nat.le_of_ble_eq_true rfl, Nat.le_of_ble_eq_true rfl⟩ rfl hl.1 rfl (Nat.le_of_ble_eq_true rfl) dX0_product_88 (fun x5 H locs hI hf => ?_)
  refine lv_astore_n (lv' := [(1, .ref q1), (0, .ref (wa w 37)), (2, .int l2)]) hx hb dX0_product_91 rfl hl (by decide) rfl (fun ls hl => ?_)
  refine lv_goto (tgt := 5) hx hb dX0_product_92 (by decide) ?_
  exact hk5 x5 q1 _ _ _ hI (lv_sub hl [1, 0] rfl) hf
def fT_product_b55 (N : Nat) (B : Nat × Nat) (k5 : TS → Nat → Option (XR Nat)) (x : TS) (l1 : Nat) (l2 : Int32) (s1 : Int32) : Option (XR Nat) :=
  bx (fT_must N B x s1) fun _ x1 =>
  if (tS x1 12) = 0 then
    b2 (alc B x1 8 (dO 4 [.null, .null, .null, .null, .null, .int 0, .int 0, .int 0])) fun q2 x3 =>
    (fFa_init x3 q2 2 (tS x3 11)).bind fun x4 =>
    gO x4 q2 4 (some (Sum.inl q2, x4))
  else
    fT_product_b78 N B k5 x1 l1 l2
theorem w_fT_product_b55 {N : Nat} {B : Nat × Nat} {r : Nat ⊕ Nat} {xr : TS} {k5 : TS → Nat → Option (XR Nat)} (C : tCx w A p s m args meth c cX0_product 3 RX0 (some (.object "TwelveChain$Term"))) (hxt : ∀ z ∈ c.exceptionTable.toList, False) (hk5 : ∀ (x : TS) (l1 : Nat) (H : Heap) (locs : List Loc) (ls : Array Slot), tI w A B x s.heap H locs → lv_has ls 3 [(0, .ref (wa w 37)), (1, .ref l1)] → k5 x l1 = some (r, xr) → W p l e (tRm B frT_product loT_product s.heap.size (SL s.heap)) s m args below meth c H locs (tZ x - s.heap.size) (tY x - SL s.heap) (xMQ below w A B (ma r) xr args s) (F0 m 5 ls [])) : ∀ (x : TS) (l1 : Nat) (l2 : Int32) (s1 : Int32) (H : Heap) (locs : List Loc) (ls : Array Slot), tI w A B x s.heap H locs → lv_has ls 3 [(0, .ref (wa w 37)), (1, .ref l1), (2, .int l2)] → fT_product_b55 N B k5 x l1 l2 s1 = some (r, xr) → W p l e (tRm B frT_product loT_product s.heap.size (SL s.heap)) s m args below meth c H locs (tZ x - s.heap.size) (tY x - SL s.heap) (xMQ below w A B (ma r) xr args s) (F0 m 55 ls [.int s1, .ref (wa w 37)]) := by
  have hx := C.1.1
  have hb := C.1.2.1
  have hown := C.1.2.2.2.1
  have hts := C.1.2.2.2.2.1
  have hE := C.2.2
  intro x l1 l2 s1 H locs ls hI hl hf
  rw [fT_product_b55] at hf
  refine x_cVv (rest := []) (mr := ma) (fun _ => rfl) C hxt hI hf (tmT_must l N B _ _) rfl cqX0_T_must ⟨Nat.le_of_ble_eq_true rfl, Nat.le_of_ble_eq_true rfl⟩ rfl hl.1 rfl (Nat.le_of_ble_eq_true rfl) dX0_product_55 (fun x1 H locs hI hf => ?_)
  refine lv_aload_n hx hb dX0_product_58 rfl (lv_at hl 0 rfl) ?_
  refine tgX0_224 C hI dX0_product_59 ?_
  refine b_ifne (tgt := 78) hx hb hf dX0_product_62 (by decide) (fun hf => ?_) (fun hf => ?_)
  · exact w_fT_product_b78 C hxt hk5 x1 l1 l2 _ _ _ hI (lv_sub hl [0, 1, 2] rfl) hf
  · refine t_new C hI hf rfl in_X4 tyX4 tyX4_ok q441 q600 q167 dfX4 dX0_product_65 (fun q2 x3 H locs hI hf => ?_)
    refine lv_dup hx hb dX0_product_68 rfl ?_
    refine lv_iconst (v := 2) hx hb dX0_product_69 (by decide) ?_
    refine lv_aload_n hx hb dX0_product_70 rfl (lv_at hl 0 rfl) ?_
    refine tgX0_199 C hI dX0_product_71 ?_
    refine t_cIv (rest := [.ref q2]) C hI hf (tmFa_init l _ _ _ _) rfl q637 q636 cn_Fa_init ⟨Nat.le_of_ble_eq_true rfl, Nat.le_of_ble_eq_true rfl⟩ rfl hl.1 rfl (Nat.le_of_ble_eq_true rfl) dX0_product_74 (fun x4 H locs hI hf => ?_)
    exact x_athrow (mk := ma) (fun _ => rfl) C hxt hI hf dX0_product_77
def fT_product_b23 (N : Nat) (B : Nat × Nat) (k5 : TS → Nat → Option (XR Nat)) (x : TS) (l1 : Nat) : Option (XR Nat) :=
  (fT_readNext N B x).bind fun x1 =>
  if (((tS x 12).toUInt32 % 65536).toInt32) = 47 then
    (tok (tW x1 9)).bind fun k2 =>
    if k2 = 3 then
      fT_product_b55 N B k5 x1 l1 (((tS x 12).toUInt32 % 65536).toInt32) 1
    else
      fT_product_b55 N B k5 x1 l1 (((tS x 12).toUInt32 % 65536).toInt32) 0
  else
    fT_product_b78 N B k5 x1 l1 (((tS x 12).toUInt32 % 65536).toInt32)
theorem w_fT_product_b23 {N : Nat} {B : Nat × Nat} {r : Nat ⊕ Nat} {xr : TS} {k5 : TS → Nat → Option (XR Nat)} (C : tCx w A p s m args meth c cX0_product 3 RX0 (some (.object "TwelveChain$Term"))) (hxt : ∀ z ∈ c.exceptionTable.toList, False) (hk5 : ∀ (x : TS) (l1 : Nat) (H : Heap) (locs : List Loc) (ls : Array Slot), tI w A B x s.heap H locs → lv_has ls 3 [(0, .ref (wa w 37)), (1, .ref l1)] → k5 x l1 = some (r, xr) → W p l e (tRm B frT_product loT_product s.heap.size (SL s.heap)) s m args below meth c H locs (tZ x - s.heap.size) (tY x - SL s.heap) (xMQ below w A B (ma r) xr args s) (F0 m 5 ls [])) : ∀ (x : TS) (l1 : Nat) (H : Heap) (locs : List Loc) (ls : Array Slot), tI w A B x s.heap H locs → lv_has ls 3 [(0, .ref (wa w 37)), (1, .ref l1)] → fT_product_b23 N B k5 x l1 = some (r, xr) → W p l e (tRm B frT_product loT_product s.heap.size (SL s.heap)) s m args below meth c H locs (tZ x - s.heap.size) (tY x - SL s.heap) (xMQ below w A B (ma r) xr args s) (F0 m 23 ls []) := by
  have hx := C.1.1
  have hb := C.1.2.1
  have hown := C.1.2.2.2.1
  have hts := C.1.2.2.2.2.1
  have hE := C.2.2
  intro x l1 H locs ls hI hl hf
  rw [fT_product_b23] at hf
  refine lv_aload_n hx hb dX0_product_23 rfl (lv_at hl 0 rfl) ?_
  refine tgX0_224 C hI dX0_product_24 ?_
  refine lv_i2c (v := ((tS x 12).toUInt32 % 65536).toInt32) hx hb dX0_product_27 rfl ?_
  refine lv_istore_n (lv' := [(2, .int (((tS x 12).toUInt32 % 65536).toInt32)), (0, .ref (wa w 37)), (1, .ref l1)]) hx hb dX0_product_28 rfl hl (by decide) rfl (fun ls hl => ?_)
  refine lv_aload_n hx hb dX0_product_29 rfl (lv_at hl 1 rfl) ?_
  refine t_cVv (rest := []) C hI hf (tmT_readNext l N B _) (rv_main C hI) cqX0_T_readNext ⟨Nat.le_of_ble_eq_true rfl, Nat.le_of_ble_eq_true rfl⟩ rfl hl.1 rfl (Nat.le_of_ble_eq_true rfl) dX0_product_30 (fun x1 H locs hI hf => ?_)
  refine lv_iload_n hx hb dX0_product_33 rfl (lv_at hl 0 rfl) ?_
  refine lv_bipush (v := 47) hx hb dX0_product_34 (by decide) ?_
  refine b_icne (tgt := 78) hx hb hf dX0_product_36 (by decide) (fun hf => ?_) (fun hf => ?_)
  · exact w_fT_product_b78 C hxt hk5 x1 l1 (((tS x 12).toUInt32 % 65536).toInt32) _ _ _ hI (lv_sub hl [1, 2, 0] rfl) hf
  · refine lv_aload_n hx hb dX0_product_39 rfl (lv_at hl 1 rfl) ?_
    refine lv_aload_n hx hb dX0_product_40 rfl (lv_at hl 1 rfl) ?_
    refine t_tok C hI hf q316 dX0_product_41 (fun k2 hi_k2 hf => ?_)
    refine t_gtok (i := 3) C hI (by decide) rfl q530 dX0_product_44 ?_
    refine b_acne (i := k2) (j := 3) (tgt := 54) C hi_k2 (by decide) hf dX0_product_47 (by decide) (fun hf => ?_) (fun hf => ?_)
    · refine lv_iconst (v := 0) hx hb dX0_product_54 (by decide) ?_
      exact w_fT_product_b55 C hxt hk5 x1 l1 (((tS x 12).toUInt32 % 65536).toInt32) 0 _ _ _ hI (lv_sub hl [1, 2, 0] rfl) hf
    · refine lv_iconst (v := 1) hx hb dX0_product_50 (by decide) ?_
      refine lv_goto (tgt := 55) hx hb dX0_product_51 (by decide) ?_
      exact w_fT_product_b55 C hxt hk5 x1 l1 (((tS x 12).toUInt32 % 65536).toInt32) 1 _ _ _ hI (lv_sub hl [1, 2, 0] rfl) hf
def fT_product_b5 (N : Nat) (B : Nat × Nat) : Nat → TS → Nat → Option (XR Nat)
  | 0, _, _ => none
  | n + 1, x, l1 =>
  b2 (fT_isSign N B x 42) fun v2 x1 =>
  if v2 = 0 then
    b2 (fT_isSign N B x1 47) fun v4 x3 =>
    if v4 = 0 then
      some (Sum.inr l1, x3)
    else
      fT_product_b23 N B (fT_product_b5 N B n) x3 l1
  else
    fT_product_b23 N B (fT_product_b5 N B n) x1 l1
theorem w_fT_product_b5 {N : Nat} {B : Nat × Nat} {r : Nat ⊕ Nat} {xr : TS} (C : tCx w A p s m args meth c cX0_product 3 RX0 (some (.object "TwelveChain$Term"))) (hxt : ∀ z ∈ c.exceptionTable.toList, False) : ∀ (n : Nat) (x : TS) (l1 : Nat) (H : Heap) (locs : List Loc) (ls : Array Slot), tI w A B x s.heap H locs → lv_has ls 3 [(0, .ref (wa w 37)), (1, .ref l1)] → fT_product_b5 N B n x l1 = some (r, xr) → W p l e (tRm B frT_product loT_product s.heap.size (SL s.heap)) s m args below meth c H locs (tZ x - s.heap.size) (tY x - SL s.heap) (xMQ below w A B (ma r) xr args s) (F0 m 5 ls []) := by
  have hx := C.1.1
  have hb := C.1.2.1
  have hown := C.1.2.2.2.1
  have hts := C.1.2.2.2.2.1
  have hE := C.2.2
  intro n
  induction n with
  | zero => intro x l1 H locs ls hI hl hf; rw [fT_product_b5] at hf; cases hf
  | succ n ih =>
  intro x l1 H locs ls hI hl hf
  rw [fT_product_b5] at hf
  refine lv_aload_n hx hb dX0_product_5 rfl (lv_at hl 0 rfl) ?_
  refine lv_bipush (v := 42) hx hb dX0_product_6 (by decide) ?_
  refine t_cVi (rest := []) C hI hf (tmT_isSign l N B _ _) (rv_main C hI) cqX0_T_isSign ⟨Nat.le_of_ble_eq_true rfl, Nat.le_of_ble_eq_true rfl⟩ rfl hl.1 rfl (Nat.le_of_ble_eq_true rfl) dX0_product_8 (fun v2 x1 H locs hI hf => ?_)
  refine b_ifne (tgt := 23) hx hb hf dX0_product_11 (by decide) (fun hf => ?_) (fun hf => ?_)
  · exact w_fT_product_b23 C hxt ih x1 l1 _ _ _ hI (lv_sub hl [0, 1] rfl) hf
  · refine lv_aload_n hx hb dX0_product_14 rfl (lv_at hl 0 rfl) ?_
    refine lv_bipush (v := 47) hx hb dX0_product_15 (by decide) ?_
    refine t_cVi (rest := []) C hI hf (tmT_isSign l N B _ _) (rv_main C hI) cqX0_T_isSign ⟨Nat.le_of_ble_eq_true rfl, Nat.le_of_ble_eq_true rfl⟩ rfl hl.1 rfl (Nat.le_of_ble_eq_true rfl) dX0_product_17 (fun v4 x3 H locs hI hf => ?_)
    refine b_ifeq (tgt := 95) hx hb hf dX0_product_20 (by decide) (fun hf => ?_) (fun hf => ?_)
    · refine lv_aload_n hx hb dX0_product_95 rfl (lv_at hl 1 rfl) ?_
      exact x_aret C hI hf dX0_product_96
    · exact w_fT_product_b23 C hxt ih x3 l1 _ _ _ hI (lv_sub hl [0, 1] rfl) hf
def fT_product (N : Nat) (B : Nat × Nat) (x : TS) : Option (XR Nat) :=
  bx (fT_unit N B x) fun q2 x1 =>
  fT_product_b5 N B N x1 q2
theorem tmT_product (l : Launch) (N : Nat) {w : tO} {A : Nat → Prop} (B : Nat × Nat) : ∀ (x : TS) (r : Nat ⊕ Nat) (xr : TS), fT_product N B x  = some (r, xr) → xMet l yX0_product (ws_ yX0_product cX0_product 3 (some (.object "TwelveChain$Term"))) frT_product loT_product [.ref (wa w 37)] w A B x (ma r) xr := by
  intro x  r xr hf
  refine x_start (cc := cX0_product) (own := RX0) (by decide +kernel) rfl (Nat.le_of_ble_eq_true rfl) rfl ?_
  intro p e s m args below meth c ls H locs C hxt hI hl
  have hx := C.1.1
  have hb := C.1.2.1
  have hown := C.1.2.2.2.1
  have hts := C.1.2.2.2.2.1
  have hE := C.2.2
  rw [fT_product] at hf
  refine lv_aload_n hx hb dX0_product_0 rfl (lv_at hl 0 rfl) ?_
  refine x_cVr (rest := []) (mr := ma) (fun _ => rfl) C hxt hI hf (tmT_unit l N B _) rfl cqX0_T_unit ⟨Nat.le_of_ble_eq_true rfl, Nat.le_of_ble_eq_true rfl⟩ rfl hl.1 rfl (Nat.le_of_ble_eq_true rfl) dX0_product_1 (fun q2 x1 H locs hI hf => ?_)
  refine lv_astore_n (lv' := [(1, .ref q2), (0, .ref (wa w 37))]) hx hb dX0_product_4 rfl hl (by decide) rfl (fun ls hl => ?_)
  exact w_fT_product_b5 C hxt N x1 q2 _ _ _ hI (lv_sub hl [1, 0] rfl) hf
/-! TwelveChain.sum()LTwelveChain$Term; -/
abbrev frT_sum : Nat := 9
abbrev loT_sum : Nat := 206
def fT_sum_b23 (N : Nat) (B : Nat × Nat) (k5 : TS → Nat → Option (XR Nat)) (x : TS) (l1 : Nat) : Option (XR Nat) :=
  (fT_readNext N B x).bind fun x1 =>
  b2 (alc B x1 3 (dO 7 [.int 0, .null, .null])) fun q2 x3 =>
  bx (fT_product N B x3) fun q5 x4 =>
  (fTw_init N B x4 q2 (((tS x 12).toUInt32 % 65536).toInt32) l1 q5).bind fun x6 =>
  k5 x6 q2
theorem w_fT_sum_b23 {N : Nat} {B : Nat × Nat} {r : Nat ⊕ Nat} {xr : TS} {k5 : TS → Nat → Option (XR Nat)} (C : tCx w A p s m args meth c cX0_sum 3 RX0 (some (.object "TwelveChain$Term"))) (hxt : ∀ z ∈ c.exceptionTable.toList, False) (hk5 : ∀ (x : TS) (l1 : Nat) (H : Heap) (locs : List Loc) (ls : Array Slot), tI w A B x s.heap H locs → lv_has ls 3 [(0, .ref (wa w 37)), (1, .ref l1)] → k5 x l1 = some (r, xr) → W p l e (tRm B frT_sum loT_sum s.heap.size (SL s.heap)) s m args below meth c H locs (tZ x - s.heap.size) (tY x - SL s.heap) (xMQ below w A B (ma r) xr args s) (F0 m 5 ls [])) : ∀ (x : TS) (l1 : Nat) (H : Heap) (locs : List Loc) (ls : Array Slot), tI w A B x s.heap H locs → lv_has ls 3 [(0, .ref (wa w 37)), (1, .ref l1)] → fT_sum_b23 N B k5 x l1 = some (r, xr) → W p l e (tRm B frT_sum loT_sum s.heap.size (SL s.heap)) s m args below meth c H locs (tZ x - s.heap.size) (tY x - SL s.heap) (xMQ below w A B (ma r) xr args s) (F0 m 23 ls []) := by
  have hx := C.1.1
  have hb := C.1.2.1
  have hown := C.1.2.2.2.1
  have hts := C.1.2.2.2.2.1
  have hE := C.2.2
  intro x l1 H locs ls hI hl hf
  rw [fT_sum_b23] at hf
  refine lv_aload_n hx hb dX0_sum_23 rfl (lv_at hl 0 rfl) ?_
  refine tgX0_224 C hI dX0_sum_24 ?_
  refine lv_i2c (v := ((tS x 12).toUInt32 % 65536).toInt32) hx hb dX0_sum_27 rfl ?_
  refine lv_istore_n (lv' := [(2, .int (((tS x 12).toUInt32 % 65536).toInt32)), (0, .ref (wa w 37)), (1, .ref l1)]) hx hb dX0_sum_28 rfl hl (by decide) rfl (fun ls hl => ?_)
  refine lv_aload_n hx hb dX0_sum_29 rfl (lv_at hl 1 rfl) ?_
  refine t_cVv (rest := []) C hI hf (tmT_readNext l N B _) (rv_main C hI) cqX0_T_readNext ⟨Nat.le_of_ble_eq_true rfl, Nat.le_of_ble_eq_true rfl⟩ rfl hl.1 rfl (Nat.le_of_ble_eq_true rfl) dX0_sum_30 (fun x1 H locs hI hf => ?_)
  refine t_new C hI hf rfl in_X8 tyX8 tyX8_ok q709 q710 q171 dfX8 dX0_sum_33 (fun q2 x3 H locs hI hf => ?_)
  refine lv_dup hx hb dX0_sum_36 rfl ?_
  refine lv_iload_n hx hb dX0_sum_37 rfl (lv_at hl 0 rfl) ?_
  refine lv_aload_n hx hb dX0_sum_38 rfl (lv_at hl 2 rfl) ?_
  refine lv_aload_n hx hb dX0_sum_39 rfl (lv_at hl 1 rfl) ?_
  refine x_cVr (rest := [.ref l1, .int (((tS x 12).toUInt32 % 65536).toInt32), .ref q2, .ref q2]) (mr := ma) (fun _ => rfl) C hxt hI hf (tmT_product l N B _) rfl cqX0_T_product ⟨Nat.le_of_ble_eq_true rfl, Nat.le_of_ble_eq_true rfl⟩ rfl hl.1 rfl (Nat.le_of_ble_eq_true rfl) dX0_sum_40 (fun q5 x4 H locs hI hf => ?_)
  refine t_cIv (rest := [.ref q2]) C hI hf (tmTw_init l N B _ _ _ _ _) rfl q712 q711 cn_Tw_init ⟨Nat.le_of_ble_eq_true rfl, Nat.le_of_ble_eq_true rfl⟩ rfl hl.1 rfl (Nat.le_of_ble_eq_true rfl) dX0_sum_43 (fun x6 H locs hI hf => ?_)
  refine lv_astore_n (lv' := [(1, .ref q2), (2, .int (((tS x 12).toUInt32 % 65536).toInt32)), (0, .ref (wa w 37))]) hx hb dX0_sum_46 rfl hl (by decide) rfl (fun ls hl => ?_)
  refine lv_goto (tgt := 5) hx hb dX0_sum_47 (by decide) ?_
  exact hk5 x6 q2 _ _ _ hI (lv_sub hl [2, 0] rfl) hf
def fT_sum_b5 (N : Nat) (B : Nat × Nat) : Nat → TS → Nat → Option (XR Nat)
  | 0, _, _ => none
  | n + 1, x, l1 =>
  b2 (fT_isSign N B x 43) fun v2 x1 =>
  if v2 = 0 then
    b2 (fT_isSign N B x1 45) fun v4 x3 =>
    if v4 = 0 then
      some (Sum.inr l1, x3)
    else
      fT_sum_b23 N B (fT_sum_b5 N B n) x3 l1
  else
    fT_sum_b23 N B (fT_sum_b5 N B n) x1 l1
theorem w_fT_sum_b5 {N : Nat} {B : Nat × Nat} {r : Nat ⊕ Nat} {xr : TS} (C : tCx w A p s m args meth c cX0_sum 3 RX0 (some (.object "TwelveChain$Term"))) (hxt : ∀ z ∈ c.exceptionTable.toList, False) : ∀ (n : Nat) (x : TS) (l1 : Nat) (H : Heap) (locs : List Loc) (ls : Array Slot), tI w A B x s.heap H locs → lv_has ls 3 [(0, .ref (wa w 37)), (1, .ref l1)] → fT_sum_b5 N B n x l1 = some (r, xr) → W p l e (tRm B frT_sum loT_sum s.heap.size (SL s.heap)) s m args below meth c H locs (tZ x - s.heap.size) (tY x - SL s.heap) (xMQ below w A B (ma r) xr args s) (F0 m 5 ls []) := by
  have hx := C.1.1
  have hb := C.1.2.1
  have hown := C.1.2.2.2.1
  have hts := C.1.2.2.2.2.1
  have hE := C.2.2
  intro n
  induction n with
  | zero => intro x l1 H locs ls hI hl hf; rw [fT_sum_b5] at hf; cases hf
  | succ n ih =>
  intro x l1 H locs ls hI hl hf
  rw [fT_sum_b5] at hf
  refine lv_aload_n hx hb dX0_sum_5 rfl (lv_at hl 0 rfl) ?_
  refine lv_bipush (v := 43) hx hb dX0_sum_6 (by decide) ?_
  refine t_cVi (rest := []) C hI hf (tmT_isSign l N B _ _) (rv_main C hI) cqX0_T_isSign ⟨Nat.le_of_ble_eq_true rfl, Nat.le_of_ble_eq_true rfl⟩ rfl hl.1 rfl (Nat.le_of_ble_eq_true rfl) dX0_sum_8 (fun v2 x1 H locs hI hf => ?_)
  refine b_ifne (tgt := 23) hx hb hf dX0_sum_11 (by decide) (fun hf => ?_) (fun hf => ?_)
  · exact w_fT_sum_b23 C hxt ih x1 l1 _ _ _ hI (lv_sub hl [0, 1] rfl) hf
  · refine lv_aload_n hx hb dX0_sum_14 rfl (lv_at hl 0 rfl) ?_
    refine lv_bipush (v := 45) hx hb dX0_sum_15 (by decide) ?_
    refine t_cVi (rest := []) C hI hf (tmT_isSign l N B _ _) (rv_main C hI) cqX0_T_isSign ⟨Nat.le_of_ble_eq_true rfl, Nat.le_of_ble_eq_true rfl⟩ rfl hl.1 rfl (Nat.le_of_ble_eq_true rfl) dX0_sum_17 (fun v4 x3 H locs hI hf => ?_)
    refine b_ifeq (tgt := 50) hx hb hf dX0_sum_20 (by decide) (fun hf => ?_) (fun hf => ?_)
    · refine lv_aload_n hx hb dX0_sum_50 rfl (lv_at hl 1 rfl) ?_
      exact x_aret C hI hf dX0_sum_51
    · exact w_fT_sum_b23 C hxt ih x3 l1 _ _ _ hI (lv_sub hl [0, 1] rfl) hf
def fT_sum (N : Nat) (B : Nat × Nat) (x : TS) : Option (XR Nat) :=
  bx (fT_product N B x) fun q2 x1 =>
  fT_sum_b5 N B N x1 q2
theorem tmT_sum (l : Launch) (N : Nat) {w : tO} {A : Nat → Prop} (B : Nat × Nat) : ∀ (x : TS) (r : Nat ⊕ Nat) (xr : TS), fT_sum N B x  = some (r, xr) → xMet l yX0_sum (ws_ yX0_sum cX0_sum 3 (some (.object "TwelveChain$Term"))) frT_sum loT_sum [.ref (wa w 37)] w A B x (ma r) xr := by
  intro x  r xr hf
  refine x_start (cc := cX0_sum) (own := RX0) (by decide +kernel) rfl (Nat.le_of_ble_eq_true rfl) rfl ?_
  intro p e s m args below meth c ls H locs C hxt hI hl
  have hx := C.1.1
  have hb := C.1.2.1
  have hown := C.1.2.2.2.1
  have hts := C.1.2.2.2.2.1
  have hE := C.2.2
  rw [fT_sum] at hf
  refine lv_aload_n hx hb dX0_sum_0 rfl (lv_at hl 0 rfl) ?_
  refine x_cVr (rest := []) (mr := ma) (fun _ => rfl) C hxt hI hf (tmT_product l N B _) rfl cqX0_T_product ⟨Nat.le_of_ble_eq_true rfl, Nat.le_of_ble_eq_true rfl⟩ rfl hl.1 rfl (Nat.le_of_ble_eq_true rfl) dX0_sum_1 (fun q2 x1 H locs hI hf => ?_)
  refine lv_astore_n (lv' := [(1, .ref q2), (0, .ref (wa w 37))]) hx hb dX0_sum_4 rfl hl (by decide) rfl (fun ls hl => ?_)
  exact w_fT_sum_b5 C hxt N x1 q2 _ _ _ hI (lv_sub hl [1, 0] rfl) hf
/-! TwelveChain.takesSign(C)V -/
abbrev frT_takesSign : Nat := 7
abbrev loT_takesSign : Nat := 163
def fT_takesSign (N : Nat) (B : Nat × Nat) (x : TS) (l1 : Int32) : Option (XR Unit) :=
  b2 (fT_isSign N B x l1) fun v2 x1 =>
  bx (fT_must N B x1 v2) fun _ x3 =>
  (fT_readNext N B x3).bind fun x4 =>
  some (Sum.inr (), x4)
theorem tmT_takesSign (l : Launch) (N : Nat) {w : tO} {A : Nat → Prop} (B : Nat × Nat) : ∀ (x : TS) (l1 : Int32) (r : Nat ⊕ Unit) (xr : TS), fT_takesSign N B x l1 = some (r, xr) → xMet l yX0_takesSign (ws_ yX0_takesSign cX0_takesSign 2 none) frT_takesSign loT_takesSign [.ref (wa w 37), .int l1] w A B x (mv r) xr := by
  intro x l1 r xr hf
  refine x_start (cc := cX0_takesSign) (own := RX0) (by decide +kernel) rfl (Nat.le_of_ble_eq_true rfl) rfl ?_
  intro p e s m args below meth c ls H locs C hxt hI hl
  have hx := C.1.1
  have hb := C.1.2.1
  have hown := C.1.2.2.2.1
  have hts := C.1.2.2.2.2.1
  have hE := C.2.2
  rw [fT_takesSign] at hf
  refine lv_aload_n hx hb dX0_takesSign_0 rfl (lv_at hl 0 rfl) ?_
  refine lv_aload_n hx hb dX0_takesSign_1 rfl (lv_at hl 0 rfl) ?_
  refine lv_iload_n hx hb dX0_takesSign_2 rfl (lv_at hl 1 rfl) ?_
  refine t_cVi (rest := [.ref (wa w 37)]) C hI hf (tmT_isSign l N B _ _) (rv_main C hI) cqX0_T_isSign ⟨Nat.le_of_ble_eq_true rfl, Nat.le_of_ble_eq_true rfl⟩ rfl hl.1 rfl (Nat.le_of_ble_eq_true rfl) dX0_takesSign_3 (fun v2 x1 H locs hI hf => ?_)
  refine x_cVv (rest := []) (mr := mv) (fun _ => rfl) C hxt hI hf (tmT_must l N B _ _) rfl cqX0_T_must ⟨Nat.le_of_ble_eq_true rfl, Nat.le_of_ble_eq_true rfl⟩ rfl hl.1 rfl (Nat.le_of_ble_eq_true rfl) dX0_takesSign_6 (fun x3 H locs hI hf => ?_)
  refine lv_aload_n hx hb dX0_takesSign_9 rfl (lv_at hl 0 rfl) ?_
  refine t_cVv (rest := []) C hI hf (tmT_readNext l N B _) (rv_main C hI) cqX0_T_readNext ⟨Nat.le_of_ble_eq_true rfl, Nat.le_of_ble_eq_true rfl⟩ rfl hl.1 rfl (Nat.le_of_ble_eq_true rfl) dX0_takesSign_10 (fun x4 H locs hI hf => ?_)
  exact x_vret C hI hf dX0_takesSign_13
/-! oneOf, both, any: depth d -/
abbrev frT_oneOf (d : Nat) : Nat := 10 + 3 * d
abbrev loT_oneOf (d : Nat) : Nat := 236 + 90 * d
abbrev frT_both (d : Nat) : Nat := 11 + 3 * d
abbrev loT_both (d : Nat) : Nat := 266 + 90 * d
abbrev frT_any (d : Nat) : Nat := 12 + 3 * d
abbrev loT_any (d : Nat) : Nat := 296 + 90 * d
/-! TwelveChain.both()LTwelveChain$Term; -/

def fT_both_b5 (N : Nat) (B : Nat × Nat) (K : TS → Option (XR Nat)) : Nat → TS → Nat → Option (XR Nat)
  | 0, _, _ => none
  | n + 1, x, l1 =>
  b2 (fT_isWord N B x 22) fun v2 x1 =>
  if v2 = 0 then
    some (Sum.inr l1, x1)
  else
    (fT_readNext N B x1).bind fun x3 =>
    b2 (alc B x3 3 (dO 7 [.int 0, .null, .null])) fun q4 x5 =>
    bx (K x5) fun q7 x6 =>
    (fTw_init N B x6 q4 38 l1 q7).bind fun x8 =>
    fT_both_b5 N B K n x8 q4
theorem w_fT_both_b5 {N : Nat} {B : Nat × Nat} {r : Nat ⊕ Nat} {xr : TS} {K : TS → Option (XR Nat)} {d : Nat} (C : tCx w A p s m args meth c cX0_both 2 RX0 (some (.object "TwelveChain$Term"))) (hxt : ∀ z ∈ c.exceptionTable.toList, False) (hK : ∀ (x : TS) (r : Nat ⊕ Nat) (xr : TS), K x = some (r, xr) → xMet l yX0_oneOf (ws_ yX0_oneOf cX0_oneOf 3 (some (.object "TwelveChain$Term"))) (frT_oneOf d) (loT_oneOf d) [.ref (wa w 37)] w A B x (ma r) xr) : ∀ (n : Nat) (x : TS) (l1 : Nat) (H : Heap) (locs : List Loc) (ls : Array Slot), tI w A B x s.heap H locs → lv_has ls 2 [(0, .ref (wa w 37)), (1, .ref l1)] → fT_both_b5 N B K n x l1 = some (r, xr) → W p l e (tRm B (frT_both d) (loT_both d) s.heap.size (SL s.heap)) s m args below meth c H locs (tZ x - s.heap.size) (tY x - SL s.heap) (xMQ below w A B (ma r) xr args s) (F0 m 5 ls []) := by
  have hx := C.1.1
  have hb := C.1.2.1
  have hown := C.1.2.2.2.1
  have hts := C.1.2.2.2.2.1
  have hE := C.2.2
  intro n
  induction n with
  | zero => intro x l1 H locs ls hI hl hf; rw [fT_both_b5] at hf; cases hf
  | succ n ih =>
  intro x l1 H locs ls hI hl hf
  rw [fT_both_b5] at hf
  refine lv_aload_n hx hb dX0_both_5 rfl (lv_at hl 0 rfl) ?_
  refine va_ldcS (q := (wk w).1 22) hx hb hown (hE.2.1 (95, "and", 22) (List.mem_of_getElem? (i := 22) rfl)) dX0_both_6 ?_
  refine t_cVi (rest := []) C hI hf (tmT_isWord l N B (by decide) _) (rv_main C hI) cqX0_T_isWord ⟨by simp only [frT_oneOf, frT_both, frT_any, loT_oneOf, loT_both, loT_any, frT_isWord, loT_isWord, frT_isSign, loT_isSign, frT_readNext, loT_readNext, frT_opens, loT_opens, frT_takesSign, loT_takesSign, frT_sum, loT_sum, frT_must, loT_must, frTw_init, loTw_init, frNo_init, loNo_init]; omega, by simp only [frT_oneOf, frT_both, frT_any, loT_oneOf, loT_both, loT_any, frT_isWord, loT_isWord, frT_isSign, loT_isSign, frT_readNext, loT_readNext, frT_opens, loT_opens, frT_takesSign, loT_takesSign, frT_sum, loT_sum, frT_must, loT_must, frTw_init, loTw_init, frNo_init, loNo_init]; omega⟩ rfl hl.1 rfl (Nat.le_of_ble_eq_true rfl) dX0_both_8 (fun v2 x1 H locs hI hf => ?_)
  refine b_ifeq (tgt := 36) hx hb hf dX0_both_11 (by decide) (fun hf => ?_) (fun hf => ?_)
  · refine lv_aload_n hx hb dX0_both_36 rfl (lv_at hl 1 rfl) ?_
    exact x_aret C hI hf dX0_both_37
  · refine lv_aload_n hx hb dX0_both_14 rfl (lv_at hl 0 rfl) ?_
    refine t_cVv (rest := []) C hI hf (tmT_readNext l N B _) (rv_main C hI) cqX0_T_readNext ⟨by simp only [frT_oneOf, frT_both, frT_any, loT_oneOf, loT_both, loT_any, frT_isWord, loT_isWord, frT_isSign, loT_isSign, frT_readNext, loT_readNext, frT_opens, loT_opens, frT_takesSign, loT_takesSign, frT_sum, loT_sum, frT_must, loT_must, frTw_init, loTw_init, frNo_init, loNo_init]; omega, by simp only [frT_oneOf, frT_both, frT_any, loT_oneOf, loT_both, loT_any, frT_isWord, loT_isWord, frT_isSign, loT_isSign, frT_readNext, loT_readNext, frT_opens, loT_opens, frT_takesSign, loT_takesSign, frT_sum, loT_sum, frT_must, loT_must, frTw_init, loTw_init, frNo_init, loNo_init]; omega⟩ rfl hl.1 rfl (Nat.le_of_ble_eq_true rfl) dX0_both_15 (fun x3 H locs hI hf => ?_)
    refine t_new C hI hf rfl in_X8 tyX8 tyX8_ok q709 q710 q171 dfX8 dX0_both_18 (fun q4 x5 H locs hI hf => ?_)
    refine lv_dup hx hb dX0_both_21 rfl ?_
    refine lv_bipush (v := 38) hx hb dX0_both_22 (by decide) ?_
    refine lv_aload_n hx hb dX0_both_24 rfl (lv_at hl 1 rfl) ?_
    refine lv_aload_n hx hb dX0_both_25 rfl (lv_at hl 0 rfl) ?_
    refine x_cVr (rest := [.ref l1, .int 38, .ref q4, .ref q4]) (mr := ma) (fun _ => rfl) C hxt hI hf (hK _) rfl cqX0_T_oneOf ⟨by simp only [frT_oneOf, frT_both, frT_any, loT_oneOf, loT_both, loT_any, frT_isWord, loT_isWord, frT_isSign, loT_isSign, frT_readNext, loT_readNext, frT_opens, loT_opens, frT_takesSign, loT_takesSign, frT_sum, loT_sum, frT_must, loT_must, frTw_init, loTw_init, frNo_init, loNo_init]; omega, by simp only [frT_oneOf, frT_both, frT_any, loT_oneOf, loT_both, loT_any, frT_isWord, loT_isWord, frT_isSign, loT_isSign, frT_readNext, loT_readNext, frT_opens, loT_opens, frT_takesSign, loT_takesSign, frT_sum, loT_sum, frT_must, loT_must, frTw_init, loTw_init, frNo_init, loNo_init]; omega⟩ rfl hl.1 rfl (Nat.le_of_ble_eq_true rfl) dX0_both_26 (fun q7 x6 H locs hI hf => ?_)
    refine t_cIv (rest := [.ref q4]) C hI hf (tmTw_init l N B _ _ _ _ _) rfl q712 q711 cn_Tw_init ⟨by simp only [frT_oneOf, frT_both, frT_any, loT_oneOf, loT_both, loT_any, frT_isWord, loT_isWord, frT_isSign, loT_isSign, frT_readNext, loT_readNext, frT_opens, loT_opens, frT_takesSign, loT_takesSign, frT_sum, loT_sum, frT_must, loT_must, frTw_init, loTw_init, frNo_init, loNo_init]; omega, by simp only [frT_oneOf, frT_both, frT_any, loT_oneOf, loT_both, loT_any, frT_isWord, loT_isWord, frT_isSign, loT_isSign, frT_readNext, loT_readNext, frT_opens, loT_opens, frT_takesSign, loT_takesSign, frT_sum, loT_sum, frT_must, loT_must, frTw_init, loTw_init, frNo_init, loNo_init]; omega⟩ rfl hl.1 rfl (Nat.le_of_ble_eq_true rfl) dX0_both_29 (fun x8 H locs hI hf => ?_)
    refine lv_astore_n (lv' := [(1, .ref q4), (0, .ref (wa w 37))]) hx hb dX0_both_32 rfl hl (by decide) rfl (fun ls hl => ?_)
    refine lv_goto (tgt := 5) hx hb dX0_both_33 (by decide) ?_
    exact ih x8 q4 _ _ _ hI (lv_sub hl [1, 0] rfl) hf
def fT_both (N : Nat) (B : Nat × Nat) (K : TS → Option (XR Nat)) (x : TS) : Option (XR Nat) :=
  bx (K x) fun q2 x1 =>
  fT_both_b5 N B K N x1 q2
theorem tmT_both (l : Launch) (N : Nat) {w : tO} {A : Nat → Prop} (B : Nat × Nat) {K : TS → Option (XR Nat)} {d : Nat} (hK : ∀ (x : TS) (r : Nat ⊕ Nat) (xr : TS), K x = some (r, xr) → xMet l yX0_oneOf (ws_ yX0_oneOf cX0_oneOf 3 (some (.object "TwelveChain$Term"))) (frT_oneOf d) (loT_oneOf d) [.ref (wa w 37)] w A B x (ma r) xr) : ∀ (x : TS) (r : Nat ⊕ Nat) (xr : TS), fT_both N B K x  = some (r, xr) → xMet l yX0_both (ws_ yX0_both cX0_both 2 (some (.object "TwelveChain$Term"))) (frT_both d) (loT_both d) [.ref (wa w 37)] w A B x (ma r) xr := by
  intro x  r xr hf
  refine x_start (cc := cX0_both) (own := RX0) (by decide +kernel) rfl (Nat.le_of_ble_eq_true rfl) rfl ?_
  intro p e s m args below meth c ls H locs C hxt hI hl
  have hx := C.1.1
  have hb := C.1.2.1
  have hown := C.1.2.2.2.1
  have hts := C.1.2.2.2.2.1
  have hE := C.2.2
  rw [fT_both] at hf
  refine lv_aload_n hx hb dX0_both_0 rfl (lv_at hl 0 rfl) ?_
  refine x_cVr (rest := []) (mr := ma) (fun _ => rfl) C hxt hI hf (hK _) rfl cqX0_T_oneOf ⟨by simp only [frT_oneOf, frT_both, frT_any, loT_oneOf, loT_both, loT_any, frT_isWord, loT_isWord, frT_isSign, loT_isSign, frT_readNext, loT_readNext, frT_opens, loT_opens, frT_takesSign, loT_takesSign, frT_sum, loT_sum, frT_must, loT_must, frTw_init, loTw_init, frNo_init, loNo_init]; omega, by simp only [frT_oneOf, frT_both, frT_any, loT_oneOf, loT_both, loT_any, frT_isWord, loT_isWord, frT_isSign, loT_isSign, frT_readNext, loT_readNext, frT_opens, loT_opens, frT_takesSign, loT_takesSign, frT_sum, loT_sum, frT_must, loT_must, frTw_init, loTw_init, frNo_init, loNo_init]; omega⟩ rfl hl.1 rfl (Nat.le_of_ble_eq_true rfl) dX0_both_1 (fun q2 x1 H locs hI hf => ?_)
  refine lv_astore_n (lv' := [(1, .ref q2), (0, .ref (wa w 37))]) hx hb dX0_both_4 rfl hl (by decide) rfl (fun ls hl => ?_)
  exact w_fT_both_b5 C hxt hK N x1 q2 _ _ _ hI (lv_sub hl [1, 0] rfl) hf
/-! TwelveChain.any()LTwelveChain$Term; -/

def fT_any_b5 (N : Nat) (B : Nat × Nat) (K : TS → Option (XR Nat)) : Nat → TS → Nat → Option (XR Nat)
  | 0, _, _ => none
  | n + 1, x, l1 =>
  b2 (fT_isWord N B x 21) fun v2 x1 =>
  if v2 = 0 then
    some (Sum.inr l1, x1)
  else
    (fT_readNext N B x1).bind fun x3 =>
    b2 (alc B x3 3 (dO 7 [.int 0, .null, .null])) fun q4 x5 =>
    bx (fT_both N B K x5) fun q7 x6 =>
    (fTw_init N B x6 q4 124 l1 q7).bind fun x8 =>
    fT_any_b5 N B K n x8 q4
theorem w_fT_any_b5 {N : Nat} {B : Nat × Nat} {r : Nat ⊕ Nat} {xr : TS} {K : TS → Option (XR Nat)} {d : Nat} (C : tCx w A p s m args meth c cX0_any 2 RX0 (some (.object "TwelveChain$Term"))) (hxt : ∀ z ∈ c.exceptionTable.toList, False) (hK : ∀ (x : TS) (r : Nat ⊕ Nat) (xr : TS), K x = some (r, xr) → xMet l yX0_oneOf (ws_ yX0_oneOf cX0_oneOf 3 (some (.object "TwelveChain$Term"))) (frT_oneOf d) (loT_oneOf d) [.ref (wa w 37)] w A B x (ma r) xr) : ∀ (n : Nat) (x : TS) (l1 : Nat) (H : Heap) (locs : List Loc) (ls : Array Slot), tI w A B x s.heap H locs → lv_has ls 2 [(0, .ref (wa w 37)), (1, .ref l1)] → fT_any_b5 N B K n x l1 = some (r, xr) → W p l e (tRm B (frT_any d) (loT_any d) s.heap.size (SL s.heap)) s m args below meth c H locs (tZ x - s.heap.size) (tY x - SL s.heap) (xMQ below w A B (ma r) xr args s) (F0 m 5 ls []) := by
  have hx := C.1.1
  have hb := C.1.2.1
  have hown := C.1.2.2.2.1
  have hts := C.1.2.2.2.2.1
  have hE := C.2.2
  intro n
  induction n with
  | zero => intro x l1 H locs ls hI hl hf; rw [fT_any_b5] at hf; cases hf
  | succ n ih =>
  intro x l1 H locs ls hI hl hf
  rw [fT_any_b5] at hf
  refine lv_aload_n hx hb dX0_any_5 rfl (lv_at hl 0 rfl) ?_
  refine va_ldcS (q := (wk w).1 21) hx hb hown (hE.2.1 (93, "or", 21) (List.mem_of_getElem? (i := 21) rfl)) dX0_any_6 ?_
  refine t_cVi (rest := []) C hI hf (tmT_isWord l N B (by decide) _) (rv_main C hI) cqX0_T_isWord ⟨by simp only [frT_oneOf, frT_both, frT_any, loT_oneOf, loT_both, loT_any, frT_isWord, loT_isWord, frT_isSign, loT_isSign, frT_readNext, loT_readNext, frT_opens, loT_opens, frT_takesSign, loT_takesSign, frT_sum, loT_sum, frT_must, loT_must, frTw_init, loTw_init, frNo_init, loNo_init]; omega, by simp only [frT_oneOf, frT_both, frT_any, loT_oneOf, loT_both, loT_any, frT_isWord, loT_isWord, frT_isSign, loT_isSign, frT_readNext, loT_readNext, frT_opens, loT_opens, frT_takesSign, loT_takesSign, frT_sum, loT_sum, frT_must, loT_must, frTw_init, loTw_init, frNo_init, loNo_init]; omega⟩ rfl hl.1 rfl (Nat.le_of_ble_eq_true rfl) dX0_any_8 (fun v2 x1 H locs hI hf => ?_)
  refine b_ifeq (tgt := 36) hx hb hf dX0_any_11 (by decide) (fun hf => ?_) (fun hf => ?_)
  · refine lv_aload_n hx hb dX0_any_36 rfl (lv_at hl 1 rfl) ?_
    exact x_aret C hI hf dX0_any_37
  · refine lv_aload_n hx hb dX0_any_14 rfl (lv_at hl 0 rfl) ?_
    refine t_cVv (rest := []) C hI hf (tmT_readNext l N B _) (rv_main C hI) cqX0_T_readNext ⟨by simp only [frT_oneOf, frT_both, frT_any, loT_oneOf, loT_both, loT_any, frT_isWord, loT_isWord, frT_isSign, loT_isSign, frT_readNext, loT_readNext, frT_opens, loT_opens, frT_takesSign, loT_takesSign, frT_sum, loT_sum, frT_must, loT_must, frTw_init, loTw_init, frNo_init, loNo_init]; omega, by simp only [frT_oneOf, frT_both, frT_any, loT_oneOf, loT_both, loT_any, frT_isWord, loT_isWord, frT_isSign, loT_isSign, frT_readNext, loT_readNext, frT_opens, loT_opens, frT_takesSign, loT_takesSign, frT_sum, loT_sum, frT_must, loT_must, frTw_init, loTw_init, frNo_init, loNo_init]; omega⟩ rfl hl.1 rfl (Nat.le_of_ble_eq_true rfl) dX0_any_15 (fun x3 H locs hI hf => ?_)
    refine t_new C hI hf rfl in_X8 tyX8 tyX8_ok q709 q710 q171 dfX8 dX0_any_18 (fun q4 x5 H locs hI hf => ?_)
    refine lv_dup hx hb dX0_any_21 rfl ?_
    refine lv_bipush (v := 124) hx hb dX0_any_22 (by decide) ?_
    refine lv_aload_n hx hb dX0_any_24 rfl (lv_at hl 1 rfl) ?_
    refine lv_aload_n hx hb dX0_any_25 rfl (lv_at hl 0 rfl) ?_
    refine x_cVr (rest := [.ref l1, .int 124, .ref q4, .ref q4]) (mr := ma) (fun _ => rfl) C hxt hI hf (tmT_both l N B hK _) rfl cqX0_T_both ⟨by simp only [frT_oneOf, frT_both, frT_any, loT_oneOf, loT_both, loT_any, frT_isWord, loT_isWord, frT_isSign, loT_isSign, frT_readNext, loT_readNext, frT_opens, loT_opens, frT_takesSign, loT_takesSign, frT_sum, loT_sum, frT_must, loT_must, frTw_init, loTw_init, frNo_init, loNo_init]; omega, by simp only [frT_oneOf, frT_both, frT_any, loT_oneOf, loT_both, loT_any, frT_isWord, loT_isWord, frT_isSign, loT_isSign, frT_readNext, loT_readNext, frT_opens, loT_opens, frT_takesSign, loT_takesSign, frT_sum, loT_sum, frT_must, loT_must, frTw_init, loTw_init, frNo_init, loNo_init]; omega⟩ rfl hl.1 rfl (Nat.le_of_ble_eq_true rfl) dX0_any_26 (fun q7 x6 H locs hI hf => ?_)
    refine t_cIv (rest := [.ref q4]) C hI hf (tmTw_init l N B _ _ _ _ _) rfl q712 q711 cn_Tw_init ⟨by simp only [frT_oneOf, frT_both, frT_any, loT_oneOf, loT_both, loT_any, frT_isWord, loT_isWord, frT_isSign, loT_isSign, frT_readNext, loT_readNext, frT_opens, loT_opens, frT_takesSign, loT_takesSign, frT_sum, loT_sum, frT_must, loT_must, frTw_init, loTw_init, frNo_init, loNo_init]; omega, by simp only [frT_oneOf, frT_both, frT_any, loT_oneOf, loT_both, loT_any, frT_isWord, loT_isWord, frT_isSign, loT_isSign, frT_readNext, loT_readNext, frT_opens, loT_opens, frT_takesSign, loT_takesSign, frT_sum, loT_sum, frT_must, loT_must, frTw_init, loTw_init, frNo_init, loNo_init]; omega⟩ rfl hl.1 rfl (Nat.le_of_ble_eq_true rfl) dX0_any_29 (fun x8 H locs hI hf => ?_)
    refine lv_astore_n (lv' := [(1, .ref q4), (0, .ref (wa w 37))]) hx hb dX0_any_32 rfl hl (by decide) rfl (fun ls hl => ?_)
    refine lv_goto (tgt := 5) hx hb dX0_any_33 (by decide) ?_
    exact ih x8 q4 _ _ _ hI (lv_sub hl [1, 0] rfl) hf
def fT_any (N : Nat) (B : Nat × Nat) (K : TS → Option (XR Nat)) (x : TS) : Option (XR Nat) :=
  bx (fT_both N B K x) fun q2 x1 =>
  fT_any_b5 N B K N x1 q2
theorem tmT_any (l : Launch) (N : Nat) {w : tO} {A : Nat → Prop} (B : Nat × Nat) {K : TS → Option (XR Nat)} {d : Nat} (hK : ∀ (x : TS) (r : Nat ⊕ Nat) (xr : TS), K x = some (r, xr) → xMet l yX0_oneOf (ws_ yX0_oneOf cX0_oneOf 3 (some (.object "TwelveChain$Term"))) (frT_oneOf d) (loT_oneOf d) [.ref (wa w 37)] w A B x (ma r) xr) : ∀ (x : TS) (r : Nat ⊕ Nat) (xr : TS), fT_any N B K x  = some (r, xr) → xMet l yX0_any (ws_ yX0_any cX0_any 2 (some (.object "TwelveChain$Term"))) (frT_any d) (loT_any d) [.ref (wa w 37)] w A B x (ma r) xr := by
  intro x  r xr hf
  refine x_start (cc := cX0_any) (own := RX0) (by decide +kernel) rfl (Nat.le_of_ble_eq_true rfl) rfl ?_
  intro p e s m args below meth c ls H locs C hxt hI hl
  have hx := C.1.1
  have hb := C.1.2.1
  have hown := C.1.2.2.2.1
  have hts := C.1.2.2.2.2.1
  have hE := C.2.2
  rw [fT_any] at hf
  refine lv_aload_n hx hb dX0_any_0 rfl (lv_at hl 0 rfl) ?_
  refine x_cVr (rest := []) (mr := ma) (fun _ => rfl) C hxt hI hf (tmT_both l N B hK _) rfl cqX0_T_both ⟨by simp only [frT_oneOf, frT_both, frT_any, loT_oneOf, loT_both, loT_any, frT_isWord, loT_isWord, frT_isSign, loT_isSign, frT_readNext, loT_readNext, frT_opens, loT_opens, frT_takesSign, loT_takesSign, frT_sum, loT_sum, frT_must, loT_must, frTw_init, loTw_init, frNo_init, loNo_init]; omega, by simp only [frT_oneOf, frT_both, frT_any, loT_oneOf, loT_both, loT_any, frT_isWord, loT_isWord, frT_isSign, loT_isSign, frT_readNext, loT_readNext, frT_opens, loT_opens, frT_takesSign, loT_takesSign, frT_sum, loT_sum, frT_must, loT_must, frTw_init, loTw_init, frNo_init, loNo_init]; omega⟩ rfl hl.1 rfl (Nat.le_of_ble_eq_true rfl) dX0_any_1 (fun q2 x1 H locs hI hf => ?_)
  refine lv_astore_n (lv' := [(1, .ref q2), (0, .ref (wa w 37))]) hx hb dX0_any_4 rfl hl (by decide) rfl (fun ls hl => ?_)
  exact w_fT_any_b5 C hxt hK N x1 q2 _ _ _ hI (lv_sub hl [1, 0] rfl) hf
/-! TwelveChain.oneOf()LTwelveChain$Term; -/

def fT_oneOfB_b111 (N : Nat) (B : Nat × Nat) (K : TS → Option (XR Nat)) (x : TS) (l1 : Nat) (s1 : Int32) : Option (XR Nat) :=
  bx (fT_must N B x s1) fun _ x1 =>
  (fT_readNext N B x1).bind fun x2 =>
  b2 (alc B x2 3 (dO 7 [.int 0, .null, .null])) fun q3 x4 =>
  bx (fT_sum N B x4) fun q6 x5 =>
  (fTw_init N B x5 q3 (((tS x1 12).toUInt32 % 65536).toInt32) l1 q6).bind fun x7 =>
  some (Sum.inr q3, x7)
theorem w_fT_oneOfB_b111 {N : Nat} {B : Nat × Nat} {r : Nat ⊕ Nat} {xr : TS} {K : TS → Option (XR Nat)} {d : Nat} (C : tCx w A p s m args meth c cX0_oneOf 3 RX0 (some (.object "TwelveChain$Term"))) (hxt : ∀ z ∈ c.exceptionTable.toList, False) (hK : ∀ (x : TS) (r : Nat ⊕ Nat) (xr : TS), K x = some (r, xr) → xMet l yX0_oneOf (ws_ yX0_oneOf cX0_oneOf 3 (some (.object "TwelveChain$Term"))) (frT_oneOf d) (loT_oneOf d) [.ref (wa w 37)] w A B x (ma r) xr) : ∀ (x : TS) (l1 : Nat) (s1 : Int32) (H : Heap) (locs : List Loc) (ls : Array Slot), tI w A B x s.heap H locs → lv_has ls 3 [(0, .ref (wa w 37)), (1, .ref l1)] → fT_oneOfB_b111 N B K x l1 s1 = some (r, xr) → W p l e (tRm B (frT_oneOf (d + 1)) (loT_oneOf (d + 1)) s.heap.size (SL s.heap)) s m args below meth c H locs (tZ x - s.heap.size) (tY x - SL s.heap) (xMQ below w A B (ma r) xr args s) (F0 m 111 ls [.int s1, .ref (wa w 37)]) := by
  have hx := C.1.1
  have hb := C.1.2.1
  have hown := C.1.2.2.2.1
  have hts := C.1.2.2.2.2.1
  have hE := C.2.2
  intro x l1 s1 H locs ls hI hl hf
  rw [fT_oneOfB_b111] at hf
  refine x_cVv (rest := []) (mr := ma) (fun _ => rfl) C hxt hI hf (tmT_must l N B _ _) rfl cqX0_T_must ⟨by simp only [frT_oneOf, frT_both, frT_any, loT_oneOf, loT_both, loT_any, frT_isWord, loT_isWord, frT_isSign, loT_isSign, frT_readNext, loT_readNext, frT_opens, loT_opens, frT_takesSign, loT_takesSign, frT_sum, loT_sum, frT_must, loT_must, frTw_init, loTw_init, frNo_init, loNo_init]; omega, by simp only [frT_oneOf, frT_both, frT_any, loT_oneOf, loT_both, loT_any, frT_isWord, loT_isWord, frT_isSign, loT_isSign, frT_readNext, loT_readNext, frT_opens, loT_opens, frT_takesSign, loT_takesSign, frT_sum, loT_sum, frT_must, loT_must, frTw_init, loTw_init, frNo_init, loNo_init]; omega⟩ rfl hl.1 rfl (Nat.le_of_ble_eq_true rfl) dX0_oneOf_111 (fun x1 H locs hI hf => ?_)
  refine lv_aload_n hx hb dX0_oneOf_114 rfl (lv_at hl 0 rfl) ?_
  refine tgX0_224 C hI dX0_oneOf_115 ?_
  refine lv_i2c (v := ((tS x1 12).toUInt32 % 65536).toInt32) hx hb dX0_oneOf_118 rfl ?_
  refine lv_istore_n (lv' := [(2, .int (((tS x1 12).toUInt32 % 65536).toInt32)), (0, .ref (wa w 37)), (1, .ref l1)]) hx hb dX0_oneOf_119 rfl hl (by decide) rfl (fun ls hl => ?_)
  refine lv_aload_n hx hb dX0_oneOf_120 rfl (lv_at hl 1 rfl) ?_
  refine t_cVv (rest := []) C hI hf (tmT_readNext l N B _) (rv_main C hI) cqX0_T_readNext ⟨by simp only [frT_oneOf, frT_both, frT_any, loT_oneOf, loT_both, loT_any, frT_isWord, loT_isWord, frT_isSign, loT_isSign, frT_readNext, loT_readNext, frT_opens, loT_opens, frT_takesSign, loT_takesSign, frT_sum, loT_sum, frT_must, loT_must, frTw_init, loTw_init, frNo_init, loNo_init]; omega, by simp only [frT_oneOf, frT_both, frT_any, loT_oneOf, loT_both, loT_any, frT_isWord, loT_isWord, frT_isSign, loT_isSign, frT_readNext, loT_readNext, frT_opens, loT_opens, frT_takesSign, loT_takesSign, frT_sum, loT_sum, frT_must, loT_must, frTw_init, loTw_init, frNo_init, loNo_init]; omega⟩ rfl hl.1 rfl (Nat.le_of_ble_eq_true rfl) dX0_oneOf_121 (fun x2 H locs hI hf => ?_)
  refine t_new C hI hf rfl in_X8 tyX8 tyX8_ok q709 q710 q171 dfX8 dX0_oneOf_124 (fun q3 x4 H locs hI hf => ?_)
  refine lv_dup hx hb dX0_oneOf_127 rfl ?_
  refine lv_iload_n hx hb dX0_oneOf_128 rfl (lv_at hl 0 rfl) ?_
  refine lv_aload_n hx hb dX0_oneOf_129 rfl (lv_at hl 2 rfl) ?_
  refine lv_aload_n hx hb dX0_oneOf_130 rfl (lv_at hl 1 rfl) ?_
  refine x_cVr (rest := [.ref l1, .int (((tS x1 12).toUInt32 % 65536).toInt32), .ref q3, .ref q3]) (mr := ma) (fun _ => rfl) C hxt hI hf (tmT_sum l N B _) rfl cqX0_T_sum ⟨by simp only [frT_oneOf, frT_both, frT_any, loT_oneOf, loT_both, loT_any, frT_isWord, loT_isWord, frT_isSign, loT_isSign, frT_readNext, loT_readNext, frT_opens, loT_opens, frT_takesSign, loT_takesSign, frT_sum, loT_sum, frT_must, loT_must, frTw_init, loTw_init, frNo_init, loNo_init]; omega, by simp only [frT_oneOf, frT_both, frT_any, loT_oneOf, loT_both, loT_any, frT_isWord, loT_isWord, frT_isSign, loT_isSign, frT_readNext, loT_readNext, frT_opens, loT_opens, frT_takesSign, loT_takesSign, frT_sum, loT_sum, frT_must, loT_must, frTw_init, loTw_init, frNo_init, loNo_init]; omega⟩ rfl hl.1 rfl (Nat.le_of_ble_eq_true rfl) dX0_oneOf_131 (fun q6 x5 H locs hI hf => ?_)
  refine t_cIv (rest := [.ref q3]) C hI hf (tmTw_init l N B _ _ _ _ _) rfl q712 q711 cn_Tw_init ⟨by simp only [frT_oneOf, frT_both, frT_any, loT_oneOf, loT_both, loT_any, frT_isWord, loT_isWord, frT_isSign, loT_isSign, frT_readNext, loT_readNext, frT_opens, loT_opens, frT_takesSign, loT_takesSign, frT_sum, loT_sum, frT_must, loT_must, frTw_init, loTw_init, frNo_init, loNo_init]; omega, by simp only [frT_oneOf, frT_both, frT_any, loT_oneOf, loT_both, loT_any, frT_isWord, loT_isWord, frT_isSign, loT_isSign, frT_readNext, loT_readNext, frT_opens, loT_opens, frT_takesSign, loT_takesSign, frT_sum, loT_sum, frT_must, loT_must, frTw_init, loTw_init, frNo_init, loNo_init]; omega⟩ rfl hl.1 rfl (Nat.le_of_ble_eq_true rfl) dX0_oneOf_134 (fun x7 H locs hI hf => ?_)
  exact x_aret C hI hf dX0_oneOf_137
def fT_oneOfB (N : Nat) (B : Nat × Nat) (K : TS → Option (XR Nat)) (x : TS) : Option (XR Nat) :=
  b2 (fT_isWord N B x 23) fun v2 x1 =>
  if v2 = 0 then
    b2 (fT_isSign N B x1 40) fun v4 x3 =>
    if v4 = 0 then
      bx (fT_sum N B x3) fun q6 x5 =>
      b2 (fT_isSign N B x5 60) fun v8 x7 =>
      if v8 = 0 then
        b2 (fT_isSign N B x7 61) fun v10 x9 =>
        if v10 = 0 then
          b2 (fT_isSign N B x9 62) fun v12 x11 =>
          if v12 = 0 then
            fT_oneOfB_b111 N B K x11 q6 0
          else
            fT_oneOfB_b111 N B K x11 q6 1
        else
          fT_oneOfB_b111 N B K x9 q6 1
      else
        fT_oneOfB_b111 N B K x7 q6 1
    else
      bx (fT_opens N B x3) fun _ x13 =>
      bx (fT_any N B K x13) fun q15 x14 =>
      bx (fT_takesSign N B x14 41) fun _ x16 =>
      some (Sum.inr q15, sTS x16 13 ((tS x16 13) - 1))
  else
    bx (fT_opens N B x1) fun _ x17 =>
    bx (K x17) fun q19 x18 =>
    b2 (alc B (sTS x18 13 ((tS x18 13) - 1)) 1 (dO 8 [.null])) fun q20 x21 =>
    (fNo_init N B x21 q20 q19).bind fun x22 =>
    some (Sum.inr q20, x22)
theorem tmT_oneOfB (l : Launch) (N : Nat) {w : tO} {A : Nat → Prop} (B : Nat × Nat) {K : TS → Option (XR Nat)} {d : Nat} (hK : ∀ (x : TS) (r : Nat ⊕ Nat) (xr : TS), K x = some (r, xr) → xMet l yX0_oneOf (ws_ yX0_oneOf cX0_oneOf 3 (some (.object "TwelveChain$Term"))) (frT_oneOf d) (loT_oneOf d) [.ref (wa w 37)] w A B x (ma r) xr) : ∀ (x : TS) (r : Nat ⊕ Nat) (xr : TS), fT_oneOfB N B K x  = some (r, xr) → xMet l yX0_oneOf (ws_ yX0_oneOf cX0_oneOf 3 (some (.object "TwelveChain$Term"))) (frT_oneOf (d + 1)) (loT_oneOf (d + 1)) [.ref (wa w 37)] w A B x (ma r) xr := by
  intro x  r xr hf
  refine x_start (cc := cX0_oneOf) (own := RX0) (by decide +kernel) rfl (Nat.le_of_ble_eq_true rfl) rfl ?_
  intro p e s m args below meth c ls H locs C hxt hI hl
  have hx := C.1.1
  have hb := C.1.2.1
  have hown := C.1.2.2.2.1
  have hts := C.1.2.2.2.2.1
  have hE := C.2.2
  rw [fT_oneOfB] at hf
  refine lv_aload_n hx hb dX0_oneOf_0 rfl (lv_at hl 0 rfl) ?_
  refine va_ldcS (q := (wk w).1 23) hx hb hown (hE.2.1 (97, "not", 23) (List.mem_of_getElem? (i := 23) rfl)) dX0_oneOf_1 ?_
  refine t_cVi (rest := []) C hI hf (tmT_isWord l N B (by decide) _) (rv_main C hI) cqX0_T_isWord ⟨by simp only [frT_oneOf, frT_both, frT_any, loT_oneOf, loT_both, loT_any, frT_isWord, loT_isWord, frT_isSign, loT_isSign, frT_readNext, loT_readNext, frT_opens, loT_opens, frT_takesSign, loT_takesSign, frT_sum, loT_sum, frT_must, loT_must, frTw_init, loTw_init, frNo_init, loNo_init]; omega, by simp only [frT_oneOf, frT_both, frT_any, loT_oneOf, loT_both, loT_any, frT_isWord, loT_isWord, frT_isSign, loT_isSign, frT_readNext, loT_readNext, frT_opens, loT_opens, frT_takesSign, loT_takesSign, frT_sum, loT_sum, frT_must, loT_must, frTw_init, loTw_init, frNo_init, loNo_init]; omega⟩ rfl hl.1 rfl (Nat.le_of_ble_eq_true rfl) dX0_oneOf_3 (fun v2 x1 H locs hI hf => ?_)
  refine b_ifeq (tgt := 37) hx hb hf dX0_oneOf_6 (by decide) (fun hf => ?_) (fun hf => ?_)
  · refine lv_aload_n hx hb dX0_oneOf_37 rfl (lv_at hl 0 rfl) ?_
    refine lv_bipush (v := 40) hx hb dX0_oneOf_38 (by decide) ?_
    refine t_cVi (rest := []) C hI hf (tmT_isSign l N B _ _) (rv_main C hI) cqX0_T_isSign ⟨by simp only [frT_oneOf, frT_both, frT_any, loT_oneOf, loT_both, loT_any, frT_isWord, loT_isWord, frT_isSign, loT_isSign, frT_readNext, loT_readNext, frT_opens, loT_opens, frT_takesSign, loT_takesSign, frT_sum, loT_sum, frT_must, loT_must, frTw_init, loTw_init, frNo_init, loNo_init]; omega, by simp only [frT_oneOf, frT_both, frT_any, loT_oneOf, loT_both, loT_any, frT_isWord, loT_isWord, frT_isSign, loT_isSign, frT_readNext, loT_readNext, frT_opens, loT_opens, frT_takesSign, loT_takesSign, frT_sum, loT_sum, frT_must, loT_must, frTw_init, loTw_init, frNo_init, loNo_init]; omega⟩ rfl hl.1 rfl (Nat.le_of_ble_eq_true rfl) dX0_oneOf_40 (fun v4 x3 H locs hI hf => ?_)
    refine b_ifeq (tgt := 73) hx hb hf dX0_oneOf_43 (by decide) (fun hf => ?_) (fun hf => ?_)
    · refine lv_aload_n hx hb dX0_oneOf_73 rfl (lv_at hl 0 rfl) ?_
      refine x_cVr (rest := []) (mr := ma) (fun _ => rfl) C hxt hI hf (tmT_sum l N B _) rfl cqX0_T_sum ⟨by simp only [frT_oneOf, frT_both, frT_any, loT_oneOf, loT_both, loT_any, frT_isWord, loT_isWord, frT_isSign, loT_isSign, frT_readNext, loT_readNext, frT_opens, loT_opens, frT_takesSign, loT_takesSign, frT_sum, loT_sum, frT_must, loT_must, frTw_init, loTw_init, frNo_init, loNo_init]; omega, by simp only [frT_oneOf, frT_both, frT_any, loT_oneOf, loT_both, loT_any, frT_isWord, loT_isWord, frT_isSign, loT_isSign, frT_readNext, loT_readNext, frT_opens, loT_opens, frT_takesSign, loT_takesSign, frT_sum, loT_sum, frT_must, loT_must, frTw_init, loTw_init, frNo_init, loNo_init]; omega⟩ rfl hl.1 rfl (Nat.le_of_ble_eq_true rfl) dX0_oneOf_74 (fun q6 x5 H locs hI hf => ?_)
      refine lv_astore_n (lv' := [(1, .ref q6), (0, .ref (wa w 37))]) hx hb dX0_oneOf_77 rfl hl (by decide) rfl (fun ls hl => ?_)
      refine lv_aload_n hx hb dX0_oneOf_78 rfl (lv_at hl 1 rfl) ?_
      refine lv_aload_n hx hb dX0_oneOf_79 rfl (lv_at hl 1 rfl) ?_
      refine lv_bipush (v := 60) hx hb dX0_oneOf_80 (by decide) ?_
      refine t_cVi (rest := [.ref (wa w 37)]) C hI hf (tmT_isSign l N B _ _) (rv_main C hI) cqX0_T_isSign ⟨by simp only [frT_oneOf, frT_both, frT_any, loT_oneOf, loT_both, loT_any, frT_isWord, loT_isWord, frT_isSign, loT_isSign, frT_readNext, loT_readNext, frT_opens, loT_opens, frT_takesSign, loT_takesSign, frT_sum, loT_sum, frT_must, loT_must, frTw_init, loTw_init, frNo_init, loNo_init]; omega, by simp only [frT_oneOf, frT_both, frT_any, loT_oneOf, loT_both, loT_any, frT_isWord, loT_isWord, frT_isSign, loT_isSign, frT_readNext, loT_readNext, frT_opens, loT_opens, frT_takesSign, loT_takesSign, frT_sum, loT_sum, frT_must, loT_must, frTw_init, loTw_init, frNo_init, loNo_init]; omega⟩ rfl hl.1 rfl (Nat.le_of_ble_eq_true rfl) dX0_oneOf_82 (fun v8 x7 H locs hI hf => ?_)
      refine b_ifne (tgt := 106) hx hb hf dX0_oneOf_85 (by decide) (fun hf => ?_) (fun hf => ?_)
      · refine lv_iconst (v := 1) hx hb dX0_oneOf_106 (by decide) ?_
        refine lv_goto (tgt := 111) hx hb dX0_oneOf_107 (by decide) ?_
        exact w_fT_oneOfB_b111 C hxt hK x7 q6 1 _ _ _ hI (lv_sub hl [1, 0] rfl) hf
      · refine lv_aload_n hx hb dX0_oneOf_88 rfl (lv_at hl 1 rfl) ?_
        refine lv_bipush (v := 61) hx hb dX0_oneOf_89 (by decide) ?_
        refine t_cVi (rest := [.ref (wa w 37)]) C hI hf (tmT_isSign l N B _ _) (rv_main C hI) cqX0_T_isSign ⟨by simp only [frT_oneOf, frT_both, frT_any, loT_oneOf, loT_both, loT_any, frT_isWord, loT_isWord, frT_isSign, loT_isSign, frT_readNext, loT_readNext, frT_opens, loT_opens, frT_takesSign, loT_takesSign, frT_sum, loT_sum, frT_must, loT_must, frTw_init, loTw_init, frNo_init, loNo_init]; omega, by simp only [frT_oneOf, frT_both, frT_any, loT_oneOf, loT_both, loT_any, frT_isWord, loT_isWord, frT_isSign, loT_isSign, frT_readNext, loT_readNext, frT_opens, loT_opens, frT_takesSign, loT_takesSign, frT_sum, loT_sum, frT_must, loT_must, frTw_init, loTw_init, frNo_init, loNo_init]; omega⟩ rfl hl.1 rfl (Nat.le_of_ble_eq_true rfl) dX0_oneOf_91 (fun v10 x9 H locs hI hf => ?_)
        refine b_ifne (tgt := 106) hx hb hf dX0_oneOf_94 (by decide) (fun hf => ?_) (fun hf => ?_)
        · refine lv_iconst (v := 1) hx hb dX0_oneOf_106 (by decide) ?_
          refine lv_goto (tgt := 111) hx hb dX0_oneOf_107 (by decide) ?_
          exact w_fT_oneOfB_b111 C hxt hK x9 q6 1 _ _ _ hI (lv_sub hl [1, 0] rfl) hf
        · refine lv_aload_n hx hb dX0_oneOf_97 rfl (lv_at hl 1 rfl) ?_
          refine lv_bipush (v := 62) hx hb dX0_oneOf_98 (by decide) ?_
          refine t_cVi (rest := [.ref (wa w 37)]) C hI hf (tmT_isSign l N B _ _) (rv_main C hI) cqX0_T_isSign ⟨by simp only [frT_oneOf, frT_both, frT_any, loT_oneOf, loT_both, loT_any, frT_isWord, loT_isWord, frT_isSign, loT_isSign, frT_readNext, loT_readNext, frT_opens, loT_opens, frT_takesSign, loT_takesSign, frT_sum, loT_sum, frT_must, loT_must, frTw_init, loTw_init, frNo_init, loNo_init]; omega, by simp only [frT_oneOf, frT_both, frT_any, loT_oneOf, loT_both, loT_any, frT_isWord, loT_isWord, frT_isSign, loT_isSign, frT_readNext, loT_readNext, frT_opens, loT_opens, frT_takesSign, loT_takesSign, frT_sum, loT_sum, frT_must, loT_must, frTw_init, loTw_init, frNo_init, loNo_init]; omega⟩ rfl hl.1 rfl (Nat.le_of_ble_eq_true rfl) dX0_oneOf_100 (fun v12 x11 H locs hI hf => ?_)
          refine b_ifeq (tgt := 110) hx hb hf dX0_oneOf_103 (by decide) (fun hf => ?_) (fun hf => ?_)
          · refine lv_iconst (v := 0) hx hb dX0_oneOf_110 (by decide) ?_
            exact w_fT_oneOfB_b111 C hxt hK x11 q6 0 _ _ _ hI (lv_sub hl [1, 0] rfl) hf
          · refine lv_iconst (v := 1) hx hb dX0_oneOf_106 (by decide) ?_
            refine lv_goto (tgt := 111) hx hb dX0_oneOf_107 (by decide) ?_
            exact w_fT_oneOfB_b111 C hxt hK x11 q6 1 _ _ _ hI (lv_sub hl [1, 0] rfl) hf
    · refine lv_aload_n hx hb dX0_oneOf_46 rfl (lv_at hl 0 rfl) ?_
      refine x_cVv (rest := []) (mr := ma) (fun _ => rfl) C hxt hI hf (tmT_opens l N B _) rfl cqX0_T_opens ⟨by simp only [frT_oneOf, frT_both, frT_any, loT_oneOf, loT_both, loT_any, frT_isWord, loT_isWord, frT_isSign, loT_isSign, frT_readNext, loT_readNext, frT_opens, loT_opens, frT_takesSign, loT_takesSign, frT_sum, loT_sum, frT_must, loT_must, frTw_init, loTw_init, frNo_init, loNo_init]; omega, by simp only [frT_oneOf, frT_both, frT_any, loT_oneOf, loT_both, loT_any, frT_isWord, loT_isWord, frT_isSign, loT_isSign, frT_readNext, loT_readNext, frT_opens, loT_opens, frT_takesSign, loT_takesSign, frT_sum, loT_sum, frT_must, loT_must, frTw_init, loTw_init, frNo_init, loNo_init]; omega⟩ rfl hl.1 rfl (Nat.le_of_ble_eq_true rfl) dX0_oneOf_47 (fun x13 H locs hI hf => ?_)
      refine lv_aload_n hx hb dX0_oneOf_50 rfl (lv_at hl 0 rfl) ?_
      refine x_cVr (rest := []) (mr := ma) (fun _ => rfl) C hxt hI hf (tmT_any l N B hK _) rfl cqX0_T_any ⟨by simp only [frT_oneOf, frT_both, frT_any, loT_oneOf, loT_both, loT_any, frT_isWord, loT_isWord, frT_isSign, loT_isSign, frT_readNext, loT_readNext, frT_opens, loT_opens, frT_takesSign, loT_takesSign, frT_sum, loT_sum, frT_must, loT_must, frTw_init, loTw_init, frNo_init, loNo_init]; omega, by simp only [frT_oneOf, frT_both, frT_any, loT_oneOf, loT_both, loT_any, frT_isWord, loT_isWord, frT_isSign, loT_isSign, frT_readNext, loT_readNext, frT_opens, loT_opens, frT_takesSign, loT_takesSign, frT_sum, loT_sum, frT_must, loT_must, frTw_init, loTw_init, frNo_init, loNo_init]; omega⟩ rfl hl.1 rfl (Nat.le_of_ble_eq_true rfl) dX0_oneOf_51 (fun q15 x14 H locs hI hf => ?_)
      refine lv_astore_n (lv' := [(1, .ref q15), (0, .ref (wa w 37))]) hx hb dX0_oneOf_54 rfl hl (by decide) rfl (fun ls hl => ?_)
      refine lv_aload_n hx hb dX0_oneOf_55 rfl (lv_at hl 1 rfl) ?_
      refine lv_bipush (v := 41) hx hb dX0_oneOf_56 (by decide) ?_
      refine x_cVv (rest := []) (mr := ma) (fun _ => rfl) C hxt hI hf (tmT_takesSign l N B _ _) rfl cqX0_T_takesSign ⟨by simp only [frT_oneOf, frT_both, frT_any, loT_oneOf, loT_both, loT_any, frT_isWord, loT_isWord, frT_isSign, loT_isSign, frT_readNext, loT_readNext, frT_opens, loT_opens, frT_takesSign, loT_takesSign, frT_sum, loT_sum, frT_must, loT_must, frTw_init, loTw_init, frNo_init, loNo_init]; omega, by simp only [frT_oneOf, frT_both, frT_any, loT_oneOf, loT_both, loT_any, frT_isWord, loT_isWord, frT_isSign, loT_isSign, frT_readNext, loT_readNext, frT_opens, loT_opens, frT_takesSign, loT_takesSign, frT_sum, loT_sum, frT_must, loT_must, frTw_init, loTw_init, frNo_init, loNo_init]; omega⟩ rfl hl.1 rfl (Nat.le_of_ble_eq_true rfl) dX0_oneOf_58 (fun x16 H locs hI hf => ?_)
      refine lv_aload_n hx hb dX0_oneOf_61 rfl (lv_at hl 1 rfl) ?_
      refine lv_dup hx hb dX0_oneOf_62 rfl ?_
      refine tgX0_287 C hI dX0_oneOf_63 ?_
      refine lv_iconst (v := 1) hx hb dX0_oneOf_66 (by decide) ?_
      refine lv_isub hx hb dX0_oneOf_67 ?_
      refine tpX0_287 C hI dX0_oneOf_68 (fun H locs hI => ?_)
      refine lv_aload_n hx hb dX0_oneOf_71 rfl (lv_at hl 0 rfl) ?_
      exact x_aret C hI hf dX0_oneOf_72
  · refine lv_aload_n hx hb dX0_oneOf_9 rfl (lv_at hl 0 rfl) ?_
    refine x_cVv (rest := []) (mr := ma) (fun _ => rfl) C hxt hI hf (tmT_opens l N B _) rfl cqX0_T_opens ⟨by simp only [frT_oneOf, frT_both, frT_any, loT_oneOf, loT_both, loT_any, frT_isWord, loT_isWord, frT_isSign, loT_isSign, frT_readNext, loT_readNext, frT_opens, loT_opens, frT_takesSign, loT_takesSign, frT_sum, loT_sum, frT_must, loT_must, frTw_init, loTw_init, frNo_init, loNo_init]; omega, by simp only [frT_oneOf, frT_both, frT_any, loT_oneOf, loT_both, loT_any, frT_isWord, loT_isWord, frT_isSign, loT_isSign, frT_readNext, loT_readNext, frT_opens, loT_opens, frT_takesSign, loT_takesSign, frT_sum, loT_sum, frT_must, loT_must, frTw_init, loTw_init, frNo_init, loNo_init]; omega⟩ rfl hl.1 rfl (Nat.le_of_ble_eq_true rfl) dX0_oneOf_10 (fun x17 H locs hI hf => ?_)
    refine lv_aload_n hx hb dX0_oneOf_13 rfl (lv_at hl 0 rfl) ?_
    refine x_cVr (rest := []) (mr := ma) (fun _ => rfl) C hxt hI hf (hK _) rfl cqX0_T_oneOf ⟨by simp only [frT_oneOf, frT_both, frT_any, loT_oneOf, loT_both, loT_any, frT_isWord, loT_isWord, frT_isSign, loT_isSign, frT_readNext, loT_readNext, frT_opens, loT_opens, frT_takesSign, loT_takesSign, frT_sum, loT_sum, frT_must, loT_must, frTw_init, loTw_init, frNo_init, loNo_init]; omega, by simp only [frT_oneOf, frT_both, frT_any, loT_oneOf, loT_both, loT_any, frT_isWord, loT_isWord, frT_isSign, loT_isSign, frT_readNext, loT_readNext, frT_opens, loT_opens, frT_takesSign, loT_takesSign, frT_sum, loT_sum, frT_must, loT_must, frTw_init, loTw_init, frNo_init, loNo_init]; omega⟩ rfl hl.1 rfl (Nat.le_of_ble_eq_true rfl) dX0_oneOf_14 (fun q19 x18 H locs hI hf => ?_)
    refine lv_astore_n (lv' := [(1, .ref q19), (0, .ref (wa w 37))]) hx hb dX0_oneOf_17 rfl hl (by decide) rfl (fun ls hl => ?_)
    refine lv_aload_n hx hb dX0_oneOf_18 rfl (lv_at hl 1 rfl) ?_
    refine lv_dup hx hb dX0_oneOf_19 rfl ?_
    refine tgX0_287 C hI dX0_oneOf_20 ?_
    refine lv_iconst (v := 1) hx hb dX0_oneOf_23 (by decide) ?_
    refine lv_isub hx hb dX0_oneOf_24 ?_
    refine tpX0_287 C hI dX0_oneOf_25 (fun H locs hI => ?_)
    refine t_new C hI hf rfl in_X9 tyX9 tyX9_ok q745 q746 q172 dfX9 dX0_oneOf_28 (fun q20 x21 H locs hI hf => ?_)
    refine lv_dup hx hb dX0_oneOf_31 rfl ?_
    refine lv_aload_n hx hb dX0_oneOf_32 rfl (lv_at hl 0 rfl) ?_
    refine t_cIv (rest := [.ref q20]) C hI hf (tmNo_init l N B _ _ _) rfl q748 q747 cn_No_init ⟨by simp only [frT_oneOf, frT_both, frT_any, loT_oneOf, loT_both, loT_any, frT_isWord, loT_isWord, frT_isSign, loT_isSign, frT_readNext, loT_readNext, frT_opens, loT_opens, frT_takesSign, loT_takesSign, frT_sum, loT_sum, frT_must, loT_must, frTw_init, loTw_init, frNo_init, loNo_init]; omega, by simp only [frT_oneOf, frT_both, frT_any, loT_oneOf, loT_both, loT_any, frT_isWord, loT_isWord, frT_isSign, loT_isSign, frT_readNext, loT_readNext, frT_opens, loT_opens, frT_takesSign, loT_takesSign, frT_sum, loT_sum, frT_must, loT_must, frTw_init, loTw_init, frNo_init, loNo_init]; omega⟩ rfl hl.1 rfl (Nat.le_of_ble_eq_true rfl) dX0_oneOf_33 (fun x22 H locs hI hf => ?_)
    exact x_aret C hI hf dX0_oneOf_36
def fT_oneOf (N : Nat) (B : Nat × Nat) : Nat → TS → Option (XR Nat)
  | 0, _ => none
  | d + 1, x => fT_oneOfB N B (fT_oneOf N B d) x
theorem tmT_oneOf (l : Launch) (N : Nat) {w : tO} {A : Nat → Prop} (B : Nat × Nat) : ∀ (d : Nat) (x : TS) (r : Nat ⊕ Nat) (xr : TS), fT_oneOf N B d x = some (r, xr) → xMet l yX0_oneOf (ws_ yX0_oneOf cX0_oneOf 3 (some (.object "TwelveChain$Term"))) (frT_oneOf d) (loT_oneOf d) [.ref (wa w 37)] w A B x (ma r) xr := by
  intro d
  induction d with
  | zero => intro x r xr hf; cases hf
  | succ d ih => intro x r xr hf; exact tmT_oneOfB l N B ih x r xr hf
/-! TwelveChain.isRoom(I)V -/
abbrev frT_isRoom : Nat := 4
abbrev loT_isRoom : Nat := 142
def fT_isRoom (N : Nat) (B : Nat × Nat) (x : TS) (l1 : Int32) : Option (XR Unit) :=
  if l1 = 16 then
    b2 (alc B x 8 (dO 4 [.null, .null, .null, .null, .null, .int 0, .int 0, .int 0])) fun q1 x2 =>
    (fFa_init x2 q1 3 (tS x2 11)).bind fun x3 =>
    gO x3 q1 4 (some (Sum.inl q1, x3))
  else
    some (Sum.inr (), x)
theorem tmT_isRoom (l : Launch) (N : Nat) {w : tO} {A : Nat → Prop} (B : Nat × Nat) : ∀ (x : TS) (l1 : Int32) (r : Nat ⊕ Unit) (xr : TS), fT_isRoom N B x l1 = some (r, xr) → xMet l yX0_isRoom (ws_ yX0_isRoom cX0_isRoom 2 none) frT_isRoom loT_isRoom [.ref (wa w 37), .int l1] w A B x (mv r) xr := by
  intro x l1 r xr hf
  refine x_start (cc := cX0_isRoom) (own := RX0) (by decide +kernel) rfl (Nat.le_of_ble_eq_true rfl) rfl ?_
  intro p e s m args below meth c ls H locs C hxt hI hl
  have hx := C.1.1
  have hb := C.1.2.1
  have hown := C.1.2.2.2.1
  have hts := C.1.2.2.2.2.1
  have hE := C.2.2
  rw [fT_isRoom] at hf
  refine lv_iload_n hx hb dX0_isRoom_0 rfl (lv_at hl 1 rfl) ?_
  refine lv_bipush (v := 16) hx hb dX0_isRoom_1 (by decide) ?_
  refine b_icne (tgt := 19) hx hb hf dX0_isRoom_3 (by decide) (fun hf => ?_) (fun hf => ?_)
  · exact x_vret C hI hf dX0_isRoom_19
  · refine t_new C hI hf rfl in_X4 tyX4 tyX4_ok q441 q600 q167 dfX4 dX0_isRoom_6 (fun q1 x2 H locs hI hf => ?_)
    refine lv_dup hx hb dX0_isRoom_9 rfl ?_
    refine lv_iconst (v := 3) hx hb dX0_isRoom_10 (by decide) ?_
    refine lv_aload_n hx hb dX0_isRoom_11 rfl (lv_at hl 0 rfl) ?_
    refine tgX0_199 C hI dX0_isRoom_12 ?_
    refine t_cIv (rest := [.ref q1]) C hI hf (tmFa_init l _ _ _ _) rfl q637 q636 cn_Fa_init ⟨Nat.le_of_ble_eq_true rfl, Nat.le_of_ble_eq_true rfl⟩ rfl hl.1 rfl (Nat.le_of_ble_eq_true rfl) dX0_isRoom_15 (fun x3 H locs hI hf => ?_)
    exact x_athrow (mk := mv) (fun _ => rfl) C hxt hI hf dX0_isRoom_18
/-! TwelveChain.readsLaw()LTwelveChain$Text; -/
abbrev frT_readsLaw : Nat := 49
abbrev loT_readsLaw : Nat := 1397
def fT_readsLaw_b102 (N : Nat) (B : Nat × Nat) (k8 : TS → Nat → Option (XR Nat)) (x : TS) (l1 : Nat) : Option (XR Nat) :=
  bx (fT_takesSign N B x 59) fun _ x1 =>
  (dgI x1 l1 2 3).bind fun v2 =>
  (dpt x1 l1 2 3 (.int (v2 + 1))).bind fun x3 =>
  k8 x3 l1
theorem w_fT_readsLaw_b102 {N : Nat} {B : Nat × Nat} {r : Nat ⊕ Nat} {xr : TS} {k8 : TS → Nat → Option (XR Nat)} (C : tCx w A p s m args meth c cX0_readsLaw 3 RX0 (some (.object "TwelveChain$Text"))) (hxt : ∀ z ∈ c.exceptionTable.toList, False) (hk8 : ∀ (x : TS) (l1 : Nat) (H : Heap) (locs : List Loc) (ls : Array Slot), tI w A B x s.heap H locs → lv_has ls 3 [(0, .ref (wa w 37)), (1, .ref l1)] → k8 x l1 = some (r, xr) → W p l e (tRm B frT_readsLaw loT_readsLaw s.heap.size (SL s.heap)) s m args below meth c H locs (tZ x - s.heap.size) (tY x - SL s.heap) (xMQ below w A B (ma r) xr args s) (F0 m 8 ls [])) : ∀ (x : TS) (l1 : Nat) (H : Heap) (locs : List Loc) (ls : Array Slot), tI w A B x s.heap H locs → lv_has ls 3 [(0, .ref (wa w 37)), (1, .ref l1)] → fT_readsLaw_b102 N B k8 x l1 = some (r, xr) → W p l e (tRm B frT_readsLaw loT_readsLaw s.heap.size (SL s.heap)) s m args below meth c H locs (tZ x - s.heap.size) (tY x - SL s.heap) (xMQ below w A B (ma r) xr args s) (F0 m 102 ls []) := by
  have hx := C.1.1
  have hb := C.1.2.1
  have hown := C.1.2.2.2.1
  have hts := C.1.2.2.2.2.1
  have hE := C.2.2
  intro x l1 H locs ls hI hl hf
  rw [fT_readsLaw_b102] at hf
  refine lv_aload_n hx hb dX0_readsLaw_102 rfl (lv_at hl 0 rfl) ?_
  refine lv_bipush (v := 59) hx hb dX0_readsLaw_103 (by decide) ?_
  refine x_cVv (rest := []) (mr := ma) (fun _ => rfl) C hxt hI hf (tmT_takesSign l N B _ _) rfl cqX0_T_takesSign ⟨Nat.le_of_ble_eq_true rfl, Nat.le_of_ble_eq_true rfl⟩ rfl hl.1 rfl (Nat.le_of_ble_eq_true rfl) dX0_readsLaw_105 (fun x1 H locs hI hf => ?_)
  refine lv_aload_n hx hb dX0_readsLaw_108 rfl (lv_at hl 1 rfl) ?_
  refine lv_dup hx hb dX0_readsLaw_109 rfl ?_
  refine tgX0_316 C hI hf dX0_readsLaw_110 (fun v2 hf => ?_)
  refine lv_iconst (v := 1) hx hb dX0_readsLaw_113 (by decide) ?_
  refine lv_iadd hx hb dX0_readsLaw_114 ?_
  refine t_dput (k := 3) C hI hf rfl in_X1 tyX1 tyX1_ok nmX1 (by decide) q227 rfl rfl (tyX1_ok 3 (by decide)) rfl rfl dX0_readsLaw_115 (fun x3 H locs hI hf => ?_)
  refine lv_goto (tgt := 8) hx hb dX0_readsLaw_118 (by decide) ?_
  exact hk8 x3 l1 _ _ _ hI (lv_sub hl [0, 1] rfl) hf
def fT_readsLaw_b8 (N : Nat) (B : Nat × Nat) : Nat → TS → Nat → Option (XR Nat)
  | 0, _, _ => none
  | n + 1, x, l1 =>
  (tok (tW x 9)).bind fun k1 =>
  if k1 = 0 then
    some (Sum.inr l1, x)
  else
    b2 (fT_wordOf N B x (tW x 6)) fun v3 x2 =>
    lt (if v3 = (-1) then 0 else 1 : Int32) fun v4 =>
    bx (fT_must N B x2 v4) fun _ x5 =>
    (dgI x5 l1 2 3).bind fun v6 =>
    bx (fT_isRoom N B x5 v6) fun _ x7 =>
    (fT_readNext N B x7).bind fun x8 =>
    (dgR x8 l1 2 0).bind fun o9 =>
    o9.bind fun q10 =>
    (dgI x8 l1 2 3).bind fun v11 =>
    (dIs x8 q10 v11 v3).bind fun x12 =>
    (dgR x12 l1 2 1).bind fun o13 =>
    o13.bind fun q14 =>
    (dgI x12 l1 2 3).bind fun v15 =>
    bx (fT_sum N B x12) fun q17 x16 =>
    (dRs x16 q14 4 v15 q17).bind fun x18 =>
    b2 (fT_isWord N B x18 20) fun v20 x19 =>
    if v20 = 0 then
      fT_readsLaw_b102 N B (fT_readsLaw_b8 N B n) x19 l1
    else
      (fT_readNext N B x19).bind fun x21 =>
      (dgR x21 l1 2 2).bind fun o22 =>
      o22.bind fun q23 =>
      (dgI x21 l1 2 3).bind fun v24 =>
      bx (fT_any N B (fT_oneOf N B 12) x21) fun q26 x25 =>
      (dRs x25 q23 4 v24 q26).bind fun x27 =>
      fT_readsLaw_b102 N B (fT_readsLaw_b8 N B n) x27 l1
theorem w_fT_readsLaw_b8 {N : Nat} {B : Nat × Nat} {r : Nat ⊕ Nat} {xr : TS} (C : tCx w A p s m args meth c cX0_readsLaw 3 RX0 (some (.object "TwelveChain$Text"))) (hxt : ∀ z ∈ c.exceptionTable.toList, False) : ∀ (n : Nat) (x : TS) (l1 : Nat) (H : Heap) (locs : List Loc) (ls : Array Slot), tI w A B x s.heap H locs → lv_has ls 3 [(0, .ref (wa w 37)), (1, .ref l1)] → fT_readsLaw_b8 N B n x l1 = some (r, xr) → W p l e (tRm B frT_readsLaw loT_readsLaw s.heap.size (SL s.heap)) s m args below meth c H locs (tZ x - s.heap.size) (tY x - SL s.heap) (xMQ below w A B (ma r) xr args s) (F0 m 8 ls []) := by
  have hx := C.1.1
  have hb := C.1.2.1
  have hown := C.1.2.2.2.1
  have hts := C.1.2.2.2.2.1
  have hE := C.2.2
  intro n
  induction n with
  | zero => intro x l1 H locs ls hI hl hf; rw [fT_readsLaw_b8] at hf; cases hf
  | succ n ih =>
  intro x l1 H locs ls hI hl hf
  rw [fT_readsLaw_b8] at hf
  refine lv_aload_n hx hb dX0_readsLaw_8 rfl (lv_at hl 0 rfl) ?_
  refine t_tok C hI hf q316 dX0_readsLaw_9 (fun k1 hi_k1 hf => ?_)
  refine t_gtok (i := 0) C hI (by decide) rfl q458 dX0_readsLaw_12 ?_
  refine b_aceq (i := k1) (j := 0) (tgt := 121) C hi_k1 (by decide) hf dX0_readsLaw_15 (by decide) (fun hf => ?_) (fun hf => ?_)
  · refine lv_aload_n hx hb dX0_readsLaw_121 rfl (lv_at hl 1 rfl) ?_
    exact x_aret C hI hf dX0_readsLaw_122
  · refine lv_aload_n hx hb dX0_readsLaw_18 rfl (lv_at hl 0 rfl) ?_
    refine lv_aload_n hx hb dX0_readsLaw_19 rfl (lv_at hl 0 rfl) ?_
    refine tgX0_105 C hI dX0_readsLaw_20 ?_
    refine t_cVi (rest := []) C hI hf (tmT_wordOf l N B _ _) (rv_main C hI) cqX0_T_wordOf ⟨Nat.le_of_ble_eq_true rfl, Nat.le_of_ble_eq_true rfl⟩ rfl hl.1 rfl (Nat.le_of_ble_eq_true rfl) dX0_readsLaw_23 (fun v3 x2 H locs hI hf => ?_)
    refine lv_istore_n (lv' := [(2, .int v3), (0, .ref (wa w 37)), (1, .ref l1)]) hx hb dX0_readsLaw_26 rfl hl (by decide) rfl (fun ls hl => ?_)
    refine lv_aload_n hx hb dX0_readsLaw_27 rfl (lv_at hl 1 rfl) ?_
    refine lv_iload_n hx hb dX0_readsLaw_28 rfl (lv_at hl 0 rfl) ?_
    refine lv_iconst (v := (-1)) hx hb dX0_readsLaw_29 (by decide) ?_
    suffices hJ : ∀ v4 : Int32, (v4 = (if v3 = (-1) then 0 else 1 : Int32)) → W p l e (tRm B frT_readsLaw loT_readsLaw s.heap.size (SL s.heap)) s m args below meth c H locs (tZ x2 - s.heap.size) (tY x2 - SL s.heap) (xMQ below w A B (ma r) xr args s) (F0 m 38 ls [.int v4, .ref (wa w 37)]) by
      refine lv_icmp_eq (tgt := 37) hx hb dX0_readsLaw_30 (by decide) (fun hc => ?_) (fun hc => ?_)
      · refine lv_iconst (v := 0) hx hb dX0_readsLaw_37 (by decide) ?_
        exact hJ _ (if_pos hc).symm
      · refine lv_iconst (v := 1) hx hb dX0_readsLaw_33 (by decide) ?_
        refine lv_goto (tgt := 38) hx hb dX0_readsLaw_34 (by decide) ?_
        exact hJ _ (if_neg hc).symm
    intro v4 hv
    have hf := lt_of hv hf
    refine x_cVv (rest := []) (mr := ma) (fun _ => rfl) C hxt hI hf (tmT_must l N B _ _) rfl cqX0_T_must ⟨Nat.le_of_ble_eq_true rfl, Nat.le_of_ble_eq_true rfl⟩ rfl hl.1 rfl (Nat.le_of_ble_eq_true rfl) dX0_readsLaw_38 (fun x5 H locs hI hf => ?_)
    refine lv_aload_n hx hb dX0_readsLaw_41 rfl (lv_at hl 1 rfl) ?_
    refine lv_aload_n hx hb dX0_readsLaw_42 rfl (lv_at hl 2 rfl) ?_
    refine tgX0_316 C hI hf dX0_readsLaw_43 (fun v6 hf => ?_)
    refine x_cVv (rest := []) (mr := ma) (fun _ => rfl) C hxt hI hf (tmT_isRoom l N B _ _) rfl cqX0_T_isRoom ⟨Nat.le_of_ble_eq_true rfl, Nat.le_of_ble_eq_true rfl⟩ rfl hl.1 rfl (Nat.le_of_ble_eq_true rfl) dX0_readsLaw_46 (fun x7 H locs hI hf => ?_)
    refine lv_aload_n hx hb dX0_readsLaw_49 rfl (lv_at hl 1 rfl) ?_
    refine t_cVv (rest := []) C hI hf (tmT_readNext l N B _) (rv_main C hI) cqX0_T_readNext ⟨Nat.le_of_ble_eq_true rfl, Nat.le_of_ble_eq_true rfl⟩ rfl hl.1 rfl (Nat.le_of_ble_eq_true rfl) dX0_readsLaw_50 (fun x8 H locs hI hf => ?_)
    refine lv_aload_n hx hb dX0_readsLaw_53 rfl (lv_at hl 2 rfl) ?_
    refine tgX0_322 C hI hf dX0_readsLaw_54 (fun o9 hf => ?_)
    refine t_nn (g := F0 m 57 ls) hf (fun q10 _ hf => ?_)
    refine lv_aload_n hx hb dX0_readsLaw_57 rfl (lv_at hl 2 rfl) ?_
    refine tgX0_316 C hI hf dX0_readsLaw_58 (fun v11 hf => ?_)
    refine lv_iload_n hx hb dX0_readsLaw_61 rfl (lv_at hl 0 rfl) ?_
    refine t_dastI C hI hf dX0_readsLaw_62 (fun x12 H locs hI hf => ?_)
    refine lv_aload_n hx hb dX0_readsLaw_63 rfl (lv_at hl 2 rfl) ?_
    refine tgX0_325 C hI hf dX0_readsLaw_64 (fun o13 hf => ?_)
    refine t_nn (g := F0 m 67 ls) hf (fun q14 _ hf => ?_)
    refine lv_aload_n hx hb dX0_readsLaw_67 rfl (lv_at hl 2 rfl) ?_
    refine tgX0_316 C hI hf dX0_readsLaw_68 (fun v15 hf => ?_)
    refine lv_aload_n hx hb dX0_readsLaw_71 rfl (lv_at hl 1 rfl) ?_
    refine x_cVr (rest := [.int v15, .ref q14]) (mr := ma) (fun _ => rfl) C hxt hI hf (tmT_sum l N B _) rfl cqX0_T_sum ⟨Nat.le_of_ble_eq_true rfl, Nat.le_of_ble_eq_true rfl⟩ rfl hl.1 rfl (Nat.le_of_ble_eq_true rfl) dX0_readsLaw_72 (fun q17 x16 H locs hI hf => ?_)
    refine t_dastR (code := 4) C hI hf rfl dX0_readsLaw_75 (fun x18 H locs hI hf => ?_)
    refine lv_aload_n hx hb dX0_readsLaw_76 rfl (lv_at hl 1 rfl) ?_
    refine va_ldcS (q := (wk w).1 20) hx hb hown (hE.2.1 (91, "when", 20) (List.mem_of_getElem? (i := 20) rfl)) dX0_readsLaw_77 ?_
    refine t_cVi (rest := []) C hI hf (tmT_isWord l N B (by decide) _) (rv_main C hI) cqX0_T_isWord ⟨Nat.le_of_ble_eq_true rfl, Nat.le_of_ble_eq_true rfl⟩ rfl hl.1 rfl (Nat.le_of_ble_eq_true rfl) dX0_readsLaw_79 (fun v20 x19 H locs hI hf => ?_)
    refine b_ifeq (tgt := 102) hx hb hf dX0_readsLaw_82 (by decide) (fun hf => ?_) (fun hf => ?_)
    · exact w_fT_readsLaw_b102 C hxt ih x19 l1 _ _ _ hI (lv_sub hl [1, 2] rfl) hf
    · refine lv_aload_n hx hb dX0_readsLaw_85 rfl (lv_at hl 1 rfl) ?_
      refine t_cVv (rest := []) C hI hf (tmT_readNext l N B _) (rv_main C hI) cqX0_T_readNext ⟨Nat.le_of_ble_eq_true rfl, Nat.le_of_ble_eq_true rfl⟩ rfl hl.1 rfl (Nat.le_of_ble_eq_true rfl) dX0_readsLaw_86 (fun x21 H locs hI hf => ?_)
      refine lv_aload_n hx hb dX0_readsLaw_89 rfl (lv_at hl 2 rfl) ?_
      refine tgX0_328 C hI hf dX0_readsLaw_90 (fun o22 hf => ?_)
      refine t_nn (g := F0 m 93 ls) hf (fun q23 _ hf => ?_)
      refine lv_aload_n hx hb dX0_readsLaw_93 rfl (lv_at hl 2 rfl) ?_
      refine tgX0_316 C hI hf dX0_readsLaw_94 (fun v24 hf => ?_)
      refine lv_aload_n hx hb dX0_readsLaw_97 rfl (lv_at hl 1 rfl) ?_
      refine x_cVr (rest := [.int v24, .ref q23]) (mr := ma) (fun _ => rfl) C hxt hI hf (tmT_any l N B (tmT_oneOf l N B 12) _) rfl cqX0_T_any ⟨Nat.le_of_ble_eq_true rfl, Nat.le_of_ble_eq_true rfl⟩ rfl hl.1 rfl (Nat.le_of_ble_eq_true rfl) dX0_readsLaw_98 (fun q26 x25 H locs hI hf => ?_)
      refine t_dastR (code := 4) C hI hf rfl dX0_readsLaw_101 (fun x27 H locs hI hf => ?_)
      exact w_fT_readsLaw_b102 C hxt ih x27 l1 _ _ _ hI (lv_sub hl [1, 2] rfl) hf
def fT_readsLaw (N : Nat) (B : Nat × Nat) (x : TS) : Option (XR Nat) :=
  b2 (alc B x 4 (dO 2 [.null, .null, .null, .int 0])) fun q1 x2 =>
  (fTx_init N B x2 q1).bind fun x3 =>
  fT_readsLaw_b8 N B N x3 q1
theorem tmT_readsLaw (l : Launch) (N : Nat) {w : tO} {A : Nat → Prop} (B : Nat × Nat) : ∀ (x : TS) (r : Nat ⊕ Nat) (xr : TS), fT_readsLaw N B x  = some (r, xr) → xMet l yX0_readsLaw (ws_ yX0_readsLaw cX0_readsLaw 3 (some (.object "TwelveChain$Text"))) frT_readsLaw loT_readsLaw [.ref (wa w 37)] w A B x (ma r) xr := by
  intro x  r xr hf
  refine x_start (cc := cX0_readsLaw) (own := RX0) (by decide +kernel) rfl (Nat.le_of_ble_eq_true rfl) rfl ?_
  intro p e s m args below meth c ls H locs C hxt hI hl
  have hx := C.1.1
  have hb := C.1.2.1
  have hown := C.1.2.2.2.1
  have hts := C.1.2.2.2.2.1
  have hE := C.2.2
  rw [fT_readsLaw] at hf
  refine t_new C hI hf rfl in_X1 tyX1 tyX1_ok q213 q214 q152 dfX1 dX0_readsLaw_0 (fun q1 x2 H locs hI hf => ?_)
  refine lv_dup hx hb dX0_readsLaw_3 rfl ?_
  refine t_cINv (rest := [.ref q1]) C hI hf (tmTx_init l N B _ _) rfl q216 (List.mem_of_getElem? (i := 0) rfl) cn_Tx_init ⟨Nat.le_of_ble_eq_true rfl, Nat.le_of_ble_eq_true rfl⟩ rfl hl.1 rfl (Nat.le_of_ble_eq_true rfl) dX0_readsLaw_4 (fun x3 H locs hI hf => ?_)
  refine lv_astore_n (lv' := [(1, .ref q1), (0, .ref (wa w 37))]) hx hb dX0_readsLaw_7 rfl hl (by decide) rfl (fun ls hl => ?_)
  exact w_fT_readsLaw_b8 C hxt N x3 q1 _ _ _ hI (lv_sub hl [1, 0] rfl) hf
/-! TwelveChain.number(II)I -/
abbrev frT_number : Nat := 7
abbrev loT_number : Nat := 163
def fT_number_b16 (N : Nat) (B : Nat × Nat) (x : TS) (l1 : Int32) (l2 : Int32) (s1 : Int32) : Option (XR Int32) :=
  bx (fT_must N B x s1) fun _ x1 =>
  (fT_isIn N (tS x1 12) l1 l2).bind fun v2 =>
  if v2 = 0 then
    b2 (alc B x1 8 (dO 4 [.null, .null, .null, .null, .null, .int 0, .int 0, .int 0])) fun q4 x5 =>
    (fFa_init x5 q4 2 (tS x5 11)).bind fun x6 =>
    gO x6 q4 4 (some (Sum.inl q4, x6))
  else
    (fT_readNext N B x1).bind fun x3 =>
    some (Sum.inr (tS x1 12), x3)
theorem w_fT_number_b16 {N : Nat} {B : Nat × Nat} {r : Nat ⊕ Int32} {xr : TS} (C : tCx w A p s m args meth c cX0_number 4 RX0 (some .int)) (hxt : ∀ z ∈ c.exceptionTable.toList, False) : ∀ (x : TS) (l1 : Int32) (l2 : Int32) (s1 : Int32) (H : Heap) (locs : List Loc) (ls : Array Slot), tI w A B x s.heap H locs → lv_has ls 4 [(0, .ref (wa w 37)), (1, .int l1), (2, .int l2)] → fT_number_b16 N B x l1 l2 s1 = some (r, xr) → W p l e (tRm B frT_number loT_number s.heap.size (SL s.heap)) s m args below meth c H locs (tZ x - s.heap.size) (tY x - SL s.heap) (xMQ below w A B (mi r) xr args s) (F0 m 16 ls [.int s1, .ref (wa w 37)]) := by
  have hx := C.1.1
  have hb := C.1.2.1
  have hown := C.1.2.2.2.1
  have hts := C.1.2.2.2.2.1
  have hE := C.2.2
  intro x l1 l2 s1 H locs ls hI hl hf
  rw [fT_number_b16] at hf
  refine x_cVv (rest := []) (mr := mi) (fun _ => rfl) C hxt hI hf (tmT_must l N B _ _) rfl cqX0_T_must ⟨Nat.le_of_ble_eq_true rfl, Nat.le_of_ble_eq_true rfl⟩ rfl hl.1 rfl (Nat.le_of_ble_eq_true rfl) dX0_number_16 (fun x1 H locs hI hf => ?_)
  refine lv_aload_n hx hb dX0_number_19 rfl (lv_at hl 0 rfl) ?_
  refine tgX0_224 C hI dX0_number_20 ?_
  refine lv_iload_n hx hb dX0_number_23 rfl (lv_at hl 1 rfl) ?_
  refine lv_iload_n hx hb dX0_number_24 rfl (lv_at hl 2 rfl) ?_
  refine g_calliS (rest := []) C.1 hf (smT_isIn l N _ _ _) cqT_T_isIn ⟨rfl, rfl⟩ ⟨Nat.le_of_ble_eq_true rfl, Nat.le_of_ble_eq_true rfl⟩ rfl hl.1 rfl (Nat.le_of_ble_eq_true rfl) (t_room hI) dX0_number_25 (fun v2 hf => ?_)
  refine b_ifne (tgt := 44) hx hb hf dX0_number_28 (by decide) (fun hf => ?_) (fun hf => ?_)
  · refine lv_aload_n hx hb dX0_number_44 rfl (lv_at hl 0 rfl) ?_
    refine tgX0_224 C hI dX0_number_45 ?_
    refine lv_istore_n (lv' := [(3, .int (tS x1 12)), (0, .ref (wa w 37)), (1, .int l1), (2, .int l2)]) hx hb dX0_number_48 rfl hl (by decide) rfl (fun ls hl => ?_)
    refine lv_aload_n hx hb dX0_number_49 rfl (lv_at hl 1 rfl) ?_
    refine t_cVv (rest := []) C hI hf (tmT_readNext l N B _) (rv_main C hI) cqX0_T_readNext ⟨Nat.le_of_ble_eq_true rfl, Nat.le_of_ble_eq_true rfl⟩ rfl hl.1 rfl (Nat.le_of_ble_eq_true rfl) dX0_number_50 (fun x3 H locs hI hf => ?_)
    refine lv_iload_n hx hb dX0_number_53 rfl (lv_at hl 0 rfl) ?_
    exact x_iret C hI hf dX0_number_54
  · refine t_new C hI hf rfl in_X4 tyX4 tyX4_ok q441 q600 q167 dfX4 dX0_number_31 (fun q4 x5 H locs hI hf => ?_)
    refine lv_dup hx hb dX0_number_34 rfl ?_
    refine lv_iconst (v := 2) hx hb dX0_number_35 (by decide) ?_
    refine lv_aload_n hx hb dX0_number_36 rfl (lv_at hl 0 rfl) ?_
    refine tgX0_199 C hI dX0_number_37 ?_
    refine t_cIv (rest := [.ref q4]) C hI hf (tmFa_init l _ _ _ _) rfl q637 q636 cn_Fa_init ⟨Nat.le_of_ble_eq_true rfl, Nat.le_of_ble_eq_true rfl⟩ rfl hl.1 rfl (Nat.le_of_ble_eq_true rfl) dX0_number_40 (fun x6 H locs hI hf => ?_)
    exact x_athrow (mk := mi) (fun _ => rfl) C hxt hI hf dX0_number_43
def fT_number (N : Nat) (B : Nat × Nat) (x : TS) (l1 : Int32) (l2 : Int32) : Option (XR Int32) :=
  (tok (tW x 9)).bind fun k1 =>
  if k1 = 3 then
    fT_number_b16 N B x l1 l2 1
  else
    fT_number_b16 N B x l1 l2 0
theorem tmT_number (l : Launch) (N : Nat) {w : tO} {A : Nat → Prop} (B : Nat × Nat) : ∀ (x : TS) (l1 : Int32) (l2 : Int32) (r : Nat ⊕ Int32) (xr : TS), fT_number N B x l1 l2 = some (r, xr) → xMet l yX0_number (ws_ yX0_number cX0_number 4 (some .int)) frT_number loT_number [.ref (wa w 37), .int l1, .int l2] w A B x (mi r) xr := by
  intro x l1 l2 r xr hf
  refine x_start (cc := cX0_number) (own := RX0) (by decide +kernel) rfl (Nat.le_of_ble_eq_true rfl) rfl ?_
  intro p e s m args below meth c ls H locs C hxt hI hl
  have hx := C.1.1
  have hb := C.1.2.1
  have hown := C.1.2.2.2.1
  have hts := C.1.2.2.2.2.1
  have hE := C.2.2
  rw [fT_number] at hf
  refine lv_aload_n hx hb dX0_number_0 rfl (lv_at hl 0 rfl) ?_
  refine lv_aload_n hx hb dX0_number_1 rfl (lv_at hl 0 rfl) ?_
  refine t_tok C hI hf q316 dX0_number_2 (fun k1 hi_k1 hf => ?_)
  refine t_gtok (i := 3) C hI (by decide) rfl q530 dX0_number_5 ?_
  refine b_acne (i := k1) (j := 3) (tgt := 15) C hi_k1 (by decide) hf dX0_number_8 (by decide) (fun hf => ?_) (fun hf => ?_)
  · refine lv_iconst (v := 0) hx hb dX0_number_15 (by decide) ?_
    exact w_fT_number_b16 C hxt x l1 l2 0 _ _ _ hI (lv_sub hl [0, 1, 2] rfl) hf
  · refine lv_iconst (v := 1) hx hb dX0_number_11 (by decide) ?_
    refine lv_goto (tgt := 16) hx hb dX0_number_12 (by decide) ?_
    exact w_fT_number_b16 C hxt x l1 l2 1 _ _ _ hI (lv_sub hl [0, 1, 2] rfl) hf
/-! TwelveChain.told(Ljava/lang/String;II)I -/
abbrev frT_told : Nat := 8
abbrev loT_told : Nat := 186
def fT_told (N : Nat) (B : Nat × Nat) (x : TS) (l1 : sIx) (l2 : Int32) (l3 : Int32) : Option (XR Int32) :=
  b2 (fT_isWord N B x l1) fun v2 x1 =>
  bx (fT_must N B x1 v2) fun _ x3 =>
  (fT_readNext N B x3).bind fun x4 =>
  bx (fT_number N B x4 l2 l3) fun v6 x5 =>
  some (Sum.inr v6, x5)
theorem tmT_told (l : Launch) (N : Nat) {w : tO} {A : Nat → Prop} (B : Nat × Nat) {l1 : Nat} (hi_l1 : l1 < 25) : ∀ (x : TS) (l2 : Int32) (l3 : Int32) (r : Nat ⊕ Int32) (xr : TS), fT_told N B x l1 l2 l3 = some (r, xr) → xMet l yX0_told (ws_ yX0_told cX0_told 4 (some .int)) frT_told loT_told [.ref (wa w 37), .ref ((wk w).1 l1), .int l2, .int l3] w A B x (mi r) xr := by
  intro x l2 l3 r xr hf
  refine x_start (cc := cX0_told) (own := RX0) (by decide +kernel) rfl (Nat.le_of_ble_eq_true rfl) rfl ?_
  intro p e s m args below meth c ls H locs C hxt hI hl
  have hx := C.1.1
  have hb := C.1.2.1
  have hown := C.1.2.2.2.1
  have hts := C.1.2.2.2.2.1
  have hE := C.2.2
  rw [fT_told] at hf
  refine lv_aload_n hx hb dX0_told_0 rfl (lv_at hl 0 rfl) ?_
  refine lv_aload_n hx hb dX0_told_1 rfl (lv_at hl 0 rfl) ?_
  refine lv_aload_n hx hb dX0_told_2 rfl (lv_at hl 1 rfl) ?_
  refine t_cVi (rest := [.ref (wa w 37)]) C hI hf (tmT_isWord l N B hi_l1 _) (rv_main C hI) cqX0_T_isWord ⟨Nat.le_of_ble_eq_true rfl, Nat.le_of_ble_eq_true rfl⟩ rfl hl.1 rfl (Nat.le_of_ble_eq_true rfl) dX0_told_3 (fun v2 x1 H locs hI hf => ?_)
  refine x_cVv (rest := []) (mr := mi) (fun _ => rfl) C hxt hI hf (tmT_must l N B _ _) rfl cqX0_T_must ⟨Nat.le_of_ble_eq_true rfl, Nat.le_of_ble_eq_true rfl⟩ rfl hl.1 rfl (Nat.le_of_ble_eq_true rfl) dX0_told_6 (fun x3 H locs hI hf => ?_)
  refine lv_aload_n hx hb dX0_told_9 rfl (lv_at hl 0 rfl) ?_
  refine t_cVv (rest := []) C hI hf (tmT_readNext l N B _) (rv_main C hI) cqX0_T_readNext ⟨Nat.le_of_ble_eq_true rfl, Nat.le_of_ble_eq_true rfl⟩ rfl hl.1 rfl (Nat.le_of_ble_eq_true rfl) dX0_told_10 (fun x4 H locs hI hf => ?_)
  refine lv_aload_n hx hb dX0_told_13 rfl (lv_at hl 0 rfl) ?_
  refine lv_iload_n hx hb dX0_told_14 rfl (lv_at hl 2 rfl) ?_
  refine lv_iload_n hx hb dX0_told_15 rfl (lv_at hl 3 rfl) ?_
  refine x_cVi (rest := []) (mr := mi) (fun _ => rfl) C hxt hI hf (tmT_number l N B _ _ _) rfl cqX0_T_number ⟨Nat.le_of_ble_eq_true rfl, Nat.le_of_ble_eq_true rfl⟩ rfl hl.1 rfl (Nat.le_of_ble_eq_true rfl) dX0_told_16 (fun v6 x5 H locs hI hf => ?_)
  exact x_iret C hI hf dX0_told_19
/-! TwelveChain.readsPhones()[LTwelveChain$Phone; -/
abbrev frT_readsPhones : Nat := 9
abbrev loT_readsPhones : Nat := 209
def fT_readsPhones_b105 (N : Nat) (B : Nat × Nat) : Nat → TS → Nat → Nat → Int32 → Option (XR Nat)
  | 0, _, _, _, _ => none
  | n + 1, x, l1, l3, l4 =>
  (dlR x l3 6).bind fun v1 =>
  if v1 ≤ l4 then
    some (Sum.inr l3, x)
  else
    (dRg x l1 6 l4).bind fun o2 =>
    o2.bind fun q3 =>
    (dRs x l3 6 l4 q3).bind fun x4 =>
    fT_readsPhones_b105 N B n x4 l1 l3 (l4 + 1)
theorem w_fT_readsPhones_b105 {N : Nat} {B : Nat × Nat} {r : Nat ⊕ Nat} {xr : TS} (C : tCx w A p s m args meth c cX0_readsPhones 5 RX0 (some (.array (.object "TwelveChain$Phone")))) (hxt : ∀ z ∈ c.exceptionTable.toList, False) : ∀ (n : Nat) (x : TS) (l1 : Nat) (l3 : Nat) (l4 : Int32) (H : Heap) (locs : List Loc) (ls : Array Slot), tI w A B x s.heap H locs → lv_has ls 5 [(1, .ref l1), (3, .ref l3), (4, .int l4)] → fT_readsPhones_b105 N B n x l1 l3 l4 = some (r, xr) → W p l e (tRm B frT_readsPhones loT_readsPhones s.heap.size (SL s.heap)) s m args below meth c H locs (tZ x - s.heap.size) (tY x - SL s.heap) (xMQ below w A B (ma r) xr args s) (F0 m 105 ls []) := by
  have hx := C.1.1
  have hb := C.1.2.1
  have hown := C.1.2.2.2.1
  have hts := C.1.2.2.2.2.1
  have hE := C.2.2
  intro n
  induction n with
  | zero => intro x l1 l3 l4 H locs ls hI hl hf; rw [fT_readsPhones_b105] at hf; cases hf
  | succ n ih =>
  intro x l1 l3 l4 H locs ls hI hl hf
  rw [fT_readsPhones_b105] at hf
  refine lv_iload hx hb dX0_readsPhones_105 (lv_at hl 2 rfl) ?_
  refine lv_aload_n hx hb dX0_readsPhones_107 rfl (lv_at hl 1 rfl) ?_
  refine t_dlen (code := 6) C hI hf rfl dX0_readsPhones_108 (fun v1 hf => ?_)
  refine b_icge (tgt := 126) hx hb hf dX0_readsPhones_109 (by decide) (fun hf => ?_) (fun hf => ?_)
  · refine lv_aload_n hx hb dX0_readsPhones_126 rfl (lv_at hl 1 rfl) ?_
    exact x_aretA C hI hf dX0_readsPhones_127
  · refine lv_aload_n hx hb dX0_readsPhones_112 rfl (lv_at hl 1 rfl) ?_
    refine lv_iload hx hb dX0_readsPhones_113 (lv_at hl 2 rfl) ?_
    refine lv_aload_n hx hb dX0_readsPhones_115 rfl (lv_at hl 0 rfl) ?_
    refine lv_iload hx hb dX0_readsPhones_116 (lv_at hl 2 rfl) ?_
    refine t_daldR (code := 6) C hI hf rfl dX0_readsPhones_118 (fun o2 hf => ?_)
    refine t_nn (g := F0 m 119 ls) hf (fun q3 _ hf => ?_)
    refine t_dastR (code := 6) C hI hf rfl dX0_readsPhones_119 (fun x4 H locs hI hf => ?_)
    refine lv_iinc (v := l4 + 1) (lv' := [(4, .int (l4 + 1)), (1, .ref l1), (3, .ref l3)]) hx hb dX0_readsPhones_120 hl (k := 2) rfl rfl (by decide) rfl (fun ls hl => ?_)
    refine lv_goto (tgt := 105) hx hb dX0_readsPhones_123 (by decide) ?_
    exact ih x4 l1 l3 (l4 + 1) _ _ _ hI (lv_sub hl [1, 2, 0] rfl) hf
def fT_readsPhones_b8 (N : Nat) (B : Nat × Nat) : Nat → TS → Nat → Int32 → Option (XR Nat)
  | 0, _, _, _ => none
  | n + 1, x, l1, l2 =>
  (tok (tW x 9)).bind fun k1 =>
  if k1 = 0 then
    b2 (nwR B x 6 l2) fun q2 x3 =>
    fT_readsPhones_b105 N B N x3 l1 q2 0
  else
    b2 (fT_isWord N B x 9) fun v5 x4 =>
    bx (fT_must N B x4 v5) fun _ x6 =>
    bx (fT_isRoom N B x6 l2) fun _ x7 =>
    bx (fT_told N B x7 9 0 ((tS x7 21) - 1)) fun v9 x8 =>
    bx (fT_told N B x8 10 0 240) fun v11 x10 =>
    b2 (alc B x10 3 (dO 9 [.int 0, .int 0, .int 0])) fun q12 x13 =>
    bx (fT_told N B x13 11 (v11 + 1) 240) fun v15 x14 =>
    (fPh_init N B x14 q12 v9 v11 v15).bind fun x16 =>
    (dRs x16 l1 6 l2 q12).bind fun x17 =>
    bx (fT_takesSign N B x17 59) fun _ x18 =>
    fT_readsPhones_b8 N B n x18 l1 (l2 + 1)
theorem w_fT_readsPhones_b8 {N : Nat} {B : Nat × Nat} {r : Nat ⊕ Nat} {xr : TS} (C : tCx w A p s m args meth c cX0_readsPhones 5 RX0 (some (.array (.object "TwelveChain$Phone")))) (hxt : ∀ z ∈ c.exceptionTable.toList, False) : ∀ (n : Nat) (x : TS) (l1 : Nat) (l2 : Int32) (H : Heap) (locs : List Loc) (ls : Array Slot), tI w A B x s.heap H locs → lv_has ls 5 [(0, .ref (wa w 37)), (1, .ref l1), (2, .int l2)] → fT_readsPhones_b8 N B n x l1 l2 = some (r, xr) → W p l e (tRm B frT_readsPhones loT_readsPhones s.heap.size (SL s.heap)) s m args below meth c H locs (tZ x - s.heap.size) (tY x - SL s.heap) (xMQ below w A B (ma r) xr args s) (F0 m 8 ls []) := by
  have hx := C.1.1
  have hb := C.1.2.1
  have hown := C.1.2.2.2.1
  have hts := C.1.2.2.2.2.1
  have hE := C.2.2
  intro n
  induction n with
  | zero => intro x l1 l2 H locs ls hI hl hf; rw [fT_readsPhones_b8] at hf; cases hf
  | succ n ih =>
  intro x l1 l2 H locs ls hI hl hf
  rw [fT_readsPhones_b8] at hf
  refine lv_aload_n hx hb dX0_readsPhones_8 rfl (lv_at hl 0 rfl) ?_
  refine t_tok C hI hf q316 dX0_readsPhones_9 (fun k1 hi_k1 hf => ?_)
  refine t_gtok (i := 0) C hI (by decide) rfl q458 dX0_readsPhones_12 ?_
  refine b_aceq (i := k1) (j := 0) (tgt := 97) C hi_k1 (by decide) hf dX0_readsPhones_15 (by decide) (fun hf => ?_) (fun hf => ?_)
  · refine lv_iload_n hx hb dX0_readsPhones_97 rfl (lv_at hl 2 rfl) ?_
    refine t_newR1 (code := 6) C hI hf rfl (by decide) q241 dX0_readsPhones_98 (fun q2 x3 H locs hI hf => ?_)
    refine lv_astore_n (lv' := [(3, .ref q2), (0, .ref (wa w 37)), (1, .ref l1), (2, .int l2)]) hx hb dX0_readsPhones_101 rfl hl (by decide) rfl (fun ls hl => ?_)
    refine lv_iconst (v := 0) hx hb dX0_readsPhones_102 (by decide) ?_
    refine lv_istore (lv' := [(4, .int 0), (3, .ref q2), (0, .ref (wa w 37)), (1, .ref l1), (2, .int l2)]) hx hb dX0_readsPhones_103 hl (by decide) rfl (fun ls hl => ?_)
    exact w_fT_readsPhones_b105 C hxt N x3 l1 q2 0 _ _ _ hI (lv_sub hl [3, 1, 0] rfl) hf
  · refine lv_aload_n hx hb dX0_readsPhones_18 rfl (lv_at hl 0 rfl) ?_
    refine lv_aload_n hx hb dX0_readsPhones_19 rfl (lv_at hl 0 rfl) ?_
    refine va_ldcS (q := (wk w).1 9) hx hb hown (hE.2.1 (62, "link", 9) (List.mem_of_getElem? (i := 9) rfl)) dX0_readsPhones_20 ?_
    refine t_cVi (rest := [.ref (wa w 37)]) C hI hf (tmT_isWord l N B (by decide) _) (rv_main C hI) cqX0_T_isWord ⟨Nat.le_of_ble_eq_true rfl, Nat.le_of_ble_eq_true rfl⟩ rfl hl.1 rfl (Nat.le_of_ble_eq_true rfl) dX0_readsPhones_22 (fun v5 x4 H locs hI hf => ?_)
    refine x_cVv (rest := []) (mr := ma) (fun _ => rfl) C hxt hI hf (tmT_must l N B _ _) rfl cqX0_T_must ⟨Nat.le_of_ble_eq_true rfl, Nat.le_of_ble_eq_true rfl⟩ rfl hl.1 rfl (Nat.le_of_ble_eq_true rfl) dX0_readsPhones_25 (fun x6 H locs hI hf => ?_)
    refine lv_aload_n hx hb dX0_readsPhones_28 rfl (lv_at hl 0 rfl) ?_
    refine lv_iload_n hx hb dX0_readsPhones_29 rfl (lv_at hl 2 rfl) ?_
    refine x_cVv (rest := []) (mr := ma) (fun _ => rfl) C hxt hI hf (tmT_isRoom l N B _ _) rfl cqX0_T_isRoom ⟨Nat.le_of_ble_eq_true rfl, Nat.le_of_ble_eq_true rfl⟩ rfl hl.1 rfl (Nat.le_of_ble_eq_true rfl) dX0_readsPhones_30 (fun x7 H locs hI hf => ?_)
    refine lv_aload_n hx hb dX0_readsPhones_33 rfl (lv_at hl 0 rfl) ?_
    refine va_ldcS (q := (wk w).1 9) hx hb hown (hE.2.1 (62, "link", 9) (List.mem_of_getElem? (i := 9) rfl)) dX0_readsPhones_34 ?_
    refine lv_iconst (v := 0) hx hb dX0_readsPhones_36 (by decide) ?_
    refine lv_aload_n hx hb dX0_readsPhones_37 rfl (lv_at hl 0 rfl) ?_
    refine tgX0_346 C hI dX0_readsPhones_38 ?_
    refine lv_iconst (v := 1) hx hb dX0_readsPhones_41 (by decide) ?_
    refine lv_isub hx hb dX0_readsPhones_42 ?_
    refine x_cVi (rest := []) (mr := ma) (fun _ => rfl) C hxt hI hf (tmT_told l N B (by decide) _ _ _) rfl cqX0_T_told ⟨Nat.le_of_ble_eq_true rfl, Nat.le_of_ble_eq_true rfl⟩ rfl hl.1 rfl (Nat.le_of_ble_eq_true rfl) dX0_readsPhones_43 (fun v9 x8 H locs hI hf => ?_)
    refine lv_istore_n (lv' := [(3, .int v9), (0, .ref (wa w 37)), (1, .ref l1), (2, .int l2)]) hx hb dX0_readsPhones_46 rfl hl (by decide) rfl (fun ls hl => ?_)
    refine lv_aload_n hx hb dX0_readsPhones_47 rfl (lv_at hl 1 rfl) ?_
    refine va_ldcS (q := (wk w).1 10) hx hb hown (hE.2.1 (64, "from", 10) (List.mem_of_getElem? (i := 10) rfl)) dX0_readsPhones_48 ?_
    refine lv_iconst (v := 0) hx hb dX0_readsPhones_50 (by decide) ?_
    refine lv_sipush (v := 240) hx hb dX0_readsPhones_51 (by decide) ?_
    refine x_cVi (rest := []) (mr := ma) (fun _ => rfl) C hxt hI hf (tmT_told l N B (by decide) _ _ _) rfl cqX0_T_told ⟨Nat.le_of_ble_eq_true rfl, Nat.le_of_ble_eq_true rfl⟩ rfl hl.1 rfl (Nat.le_of_ble_eq_true rfl) dX0_readsPhones_54 (fun v11 x10 H locs hI hf => ?_)
    refine lv_istore (lv' := [(4, .int v11), (3, .int v9), (0, .ref (wa w 37)), (1, .ref l1), (2, .int l2)]) hx hb dX0_readsPhones_57 hl (by decide) rfl (fun ls hl => ?_)
    refine lv_aload_n hx hb dX0_readsPhones_59 rfl (lv_at hl 3 rfl) ?_
    refine lv_iload_n hx hb dX0_readsPhones_60 rfl (lv_at hl 4 rfl) ?_
    refine t_new C hI hf rfl in_X10 tyX10 tyX10_ok q241 q771 q174 dfX10 dX0_readsPhones_61 (fun q12 x13 H locs hI hf => ?_)
    refine lv_dup hx hb dX0_readsPhones_64 rfl ?_
    refine lv_iload_n hx hb dX0_readsPhones_65 rfl (lv_at hl 1 rfl) ?_
    refine lv_iload hx hb dX0_readsPhones_66 (lv_at hl 0 rfl) ?_
    refine lv_aload_n hx hb dX0_readsPhones_68 rfl (lv_at hl 2 rfl) ?_
    refine va_ldcS (q := (wk w).1 11) hx hb hown (hE.2.1 (66, "to", 11) (List.mem_of_getElem? (i := 11) rfl)) dX0_readsPhones_69 ?_
    refine lv_iload hx hb dX0_readsPhones_71 (lv_at hl 0 rfl) ?_
    refine lv_iconst (v := 1) hx hb dX0_readsPhones_73 (by decide) ?_
    refine lv_iadd hx hb dX0_readsPhones_74 ?_
    refine lv_sipush (v := 240) hx hb dX0_readsPhones_75 (by decide) ?_
    refine x_cVi (rest := [.int v11, .int v9, .ref q12, .ref q12, .int l2, .ref l1]) (mr := ma) (fun _ => rfl) C hxt hI hf (tmT_told l N B (by decide) _ _ _) rfl cqX0_T_told ⟨Nat.le_of_ble_eq_true rfl, Nat.le_of_ble_eq_true rfl⟩ rfl hl.1 rfl (Nat.le_of_ble_eq_true rfl) dX0_readsPhones_78 (fun v15 x14 H locs hI hf => ?_)
    refine t_cINv (rest := [.ref q12, .int l2, .ref l1]) C hI hf (tmPh_init l N B _ _ _ _ _) rfl q773 (List.mem_of_getElem? (i := 2) rfl) cn_Ph_init ⟨Nat.le_of_ble_eq_true rfl, Nat.le_of_ble_eq_true rfl⟩ rfl hl.1 rfl (Nat.le_of_ble_eq_true rfl) dX0_readsPhones_81 (fun x16 H locs hI hf => ?_)
    refine t_dastR (code := 6) C hI hf rfl dX0_readsPhones_84 (fun x17 H locs hI hf => ?_)
    refine lv_aload_n hx hb dX0_readsPhones_85 rfl (lv_at hl 2 rfl) ?_
    refine lv_bipush (v := 59) hx hb dX0_readsPhones_86 (by decide) ?_
    refine x_cVv (rest := []) (mr := ma) (fun _ => rfl) C hxt hI hf (tmT_takesSign l N B _ _) rfl cqX0_T_takesSign ⟨Nat.le_of_ble_eq_true rfl, Nat.le_of_ble_eq_true rfl⟩ rfl hl.1 rfl (Nat.le_of_ble_eq_true rfl) dX0_readsPhones_88 (fun x18 H locs hI hf => ?_)
    refine lv_iinc (v := l2 + 1) (lv' := [(2, .int (l2 + 1)), (4, .int v11), (3, .int v9), (0, .ref (wa w 37)), (1, .ref l1)]) hx hb dX0_readsPhones_91 hl (k := 4) rfl rfl (by decide) rfl (fun ls hl => ?_)
    refine lv_goto (tgt := 8) hx hb dX0_readsPhones_94 (by decide) ?_
    exact ih x18 l1 (l2 + 1) _ _ _ hI (lv_sub hl [3, 4, 0] rfl) hf
def fT_readsPhones (N : Nat) (B : Nat × Nat) (x : TS) : Option (XR Nat) :=
  b2 (nwR B x 6 16) fun q1 x2 =>
  fT_readsPhones_b8 N B N x2 q1 0
theorem tmT_readsPhones (l : Launch) (N : Nat) {w : tO} {A : Nat → Prop} (B : Nat × Nat) : ∀ (x : TS) (r : Nat ⊕ Nat) (xr : TS), fT_readsPhones N B x  = some (r, xr) → xMet l yX0_readsPhones (ws_ yX0_readsPhones cX0_readsPhones 5 (some (.array (.object "TwelveChain$Phone")))) frT_readsPhones loT_readsPhones [.ref (wa w 37)] w A B x (ma r) xr := by
  intro x  r xr hf
  refine x_start (cc := cX0_readsPhones) (own := RX0) (by decide +kernel) rfl (Nat.le_of_ble_eq_true rfl) rfl ?_
  intro p e s m args below meth c ls H locs C hxt hI hl
  have hx := C.1.1
  have hb := C.1.2.1
  have hown := C.1.2.2.2.1
  have hts := C.1.2.2.2.2.1
  have hE := C.2.2
  rw [fT_readsPhones] at hf
  refine lv_bipush (v := 16) hx hb dX0_readsPhones_0 (by decide) ?_
  refine t_newR1 (code := 6) C hI hf rfl (by decide) q241 dX0_readsPhones_2 (fun q1 x2 H locs hI hf => ?_)
  refine lv_astore_n (lv' := [(1, .ref q1), (0, .ref (wa w 37))]) hx hb dX0_readsPhones_5 rfl hl (by decide) rfl (fun ls hl => ?_)
  refine lv_iconst (v := 0) hx hb dX0_readsPhones_6 (by decide) ?_
  refine lv_istore_n (lv' := [(2, .int 0), (1, .ref q1), (0, .ref (wa w 37))]) hx hb dX0_readsPhones_7 rfl hl (by decide) rfl (fun ls hl => ?_)
  exact w_fT_readsPhones_b8 C hxt N x2 q1 0 _ _ _ hI (lv_sub hl [2, 1, 0] rfl) hf
/-! TwelveChain.deed()LTwelveChain$Deed; -/
abbrev frT_deed : Nat := 9
abbrev loT_deed : Nat := 209
def fT_deed_b120 (N : Nat) (B : Nat × Nat) (x : TS) (s0 : Nat) (s1 : Nat) (s2 : Int32) (s3 : Int32) (s4 : Int32) (s5 : Int32) (s6 : Int32) : Option (XR Nat) :=
  (fDe_init N B x s1 s2 s3 s4 s5 s6).bind fun x1 =>
  some (Sum.inr s0, x1)
theorem w_fT_deed_b120 {N : Nat} {B : Nat × Nat} {r : Nat ⊕ Nat} {xr : TS} (C : tCx w A p s m args meth c cX0_deed 6 RX0 (some (.object "TwelveChain$Deed"))) (hxt : ∀ z ∈ c.exceptionTable.toList, False) : ∀ (x : TS) (s0 : Nat) (s1 : Nat) (s2 : Int32) (s3 : Int32) (s4 : Int32) (s5 : Int32) (s6 : Int32) (H : Heap) (locs : List Loc) (ls : Array Slot), tI w A B x s.heap H locs → lv_has ls 6 [] → fT_deed_b120 N B x s0 s1 s2 s3 s4 s5 s6 = some (r, xr) → W p l e (tRm B frT_deed loT_deed s.heap.size (SL s.heap)) s m args below meth c H locs (tZ x - s.heap.size) (tY x - SL s.heap) (xMQ below w A B (ma r) xr args s) (F0 m 120 ls [.int s6, .int s5, .int s4, .int s3, .int s2, .ref s1, .ref s0]) := by
  have hx := C.1.1
  have hb := C.1.2.1
  have hown := C.1.2.2.2.1
  have hts := C.1.2.2.2.2.1
  have hE := C.2.2
  intro x s0 s1 s2 s3 s4 s5 s6 H locs ls hI hl hf
  rw [fT_deed_b120] at hf
  refine t_cINv (rest := [.ref s0]) C hI hf (tmDe_init l N B _ _ _ _ _ _ _) rfl q815 (List.mem_of_getElem? (i := 4) rfl) cn_De_init ⟨Nat.le_of_ble_eq_true rfl, Nat.le_of_ble_eq_true rfl⟩ rfl hl.1 rfl (Nat.le_of_ble_eq_true rfl) dX0_deed_120 (fun x1 H locs hI hf => ?_)
  exact x_aret C hI hf dX0_deed_123
def fT_deed_b109 (N : Nat) (B : Nat × Nat) (x : TS) (s0 : Nat) (s1 : Nat) (s2 : Int32) (s3 : Int32) (s4 : Int32) (s5 : Int32) : Option (XR Nat) :=
  bx (fT_number N B x 1 99) fun v2 x1 =>
  fT_deed_b120 N B x1 s0 s1 s2 s3 s4 s5 v2
theorem w_fT_deed_b109 {N : Nat} {B : Nat × Nat} {r : Nat ⊕ Nat} {xr : TS} (C : tCx w A p s m args meth c cX0_deed 6 RX0 (some (.object "TwelveChain$Deed"))) (hxt : ∀ z ∈ c.exceptionTable.toList, False) : ∀ (x : TS) (s0 : Nat) (s1 : Nat) (s2 : Int32) (s3 : Int32) (s4 : Int32) (s5 : Int32) (H : Heap) (locs : List Loc) (ls : Array Slot), tI w A B x s.heap H locs → lv_has ls 6 [(0, .ref (wa w 37))] → fT_deed_b109 N B x s0 s1 s2 s3 s4 s5 = some (r, xr) → W p l e (tRm B frT_deed loT_deed s.heap.size (SL s.heap)) s m args below meth c H locs (tZ x - s.heap.size) (tY x - SL s.heap) (xMQ below w A B (ma r) xr args s) (F0 m 109 ls [.int s5, .int s4, .int s3, .int s2, .ref s1, .ref s0]) := by
  have hx := C.1.1
  have hb := C.1.2.1
  have hown := C.1.2.2.2.1
  have hts := C.1.2.2.2.2.1
  have hE := C.2.2
  intro x s0 s1 s2 s3 s4 s5 H locs ls hI hl hf
  rw [fT_deed_b109] at hf
  refine lv_aload_n hx hb dX0_deed_109 rfl (lv_at hl 0 rfl) ?_
  refine lv_iconst (v := 1) hx hb dX0_deed_110 (by decide) ?_
  refine lv_bipush (v := 99) hx hb dX0_deed_111 (by decide) ?_
  refine x_cVi (rest := [.int s5, .int s4, .int s3, .int s2, .ref s1, .ref s0]) (mr := ma) (fun _ => rfl) C hxt hI hf (tmT_number l N B _ _ _) rfl cqX0_T_number ⟨Nat.le_of_ble_eq_true rfl, Nat.le_of_ble_eq_true rfl⟩ rfl hl.1 rfl (Nat.le_of_ble_eq_true rfl) dX0_deed_113 (fun v2 x1 H locs hI hf => ?_)
  refine lv_goto (tgt := 120) hx hb dX0_deed_116 (by decide) ?_
  exact w_fT_deed_b120 C hxt x1 s0 s1 s2 s3 s4 s5 v2 _ _ _ hI (lv_sub hl [] rfl) hf
def fT_deed_b72 (N : Nat) (B : Nat × Nat) (x : TS) (l1 : Int32) (l2 : Int32) (l3 : Int32) (l4 : Int32) (s0 : Int32) : Option (XR Nat) :=
  if s0 = l3 then
    b2 (alc B x 8 (dO 4 [.null, .null, .null, .null, .null, .int 0, .int 0, .int 0])) fun q3 x4 =>
    (fFa_init x4 q3 2 l4).bind fun x5 =>
    gO x5 q3 4 (some (Sum.inl q3, x5))
  else
    b2 (alc B x 5 (dO 11 [.int 0, .int 0, .int 0, .int 0, .int 0])) fun q1 x2 =>
    if l2 = 0 then
      fT_deed_b109 N B x2 q1 q1 l1 l2 l3 s0
    else
      if l2 = 2 then
        fT_deed_b109 N B x2 q1 q1 l1 l2 l3 s0
      else
        fT_deed_b120 N B x2 q1 q1 l1 l2 l3 s0 0
theorem w_fT_deed_b72 {N : Nat} {B : Nat × Nat} {r : Nat ⊕ Nat} {xr : TS} (C : tCx w A p s m args meth c cX0_deed 6 RX0 (some (.object "TwelveChain$Deed"))) (hxt : ∀ z ∈ c.exceptionTable.toList, False) : ∀ (x : TS) (l1 : Int32) (l2 : Int32) (l3 : Int32) (l4 : Int32) (s0 : Int32) (H : Heap) (locs : List Loc) (ls : Array Slot), tI w A B x s.heap H locs → lv_has ls 6 [(0, .ref (wa w 37)), (1, .int l1), (2, .int l2), (3, .int l3), (4, .int l4)] → fT_deed_b72 N B x l1 l2 l3 l4 s0 = some (r, xr) → W p l e (tRm B frT_deed loT_deed s.heap.size (SL s.heap)) s m args below meth c H locs (tZ x - s.heap.size) (tY x - SL s.heap) (xMQ below w A B (ma r) xr args s) (F0 m 72 ls [.int s0]) := by
  have hx := C.1.1
  have hb := C.1.2.1
  have hown := C.1.2.2.2.1
  have hts := C.1.2.2.2.2.1
  have hE := C.2.2
  intro x l1 l2 l3 l4 s0 H locs ls hI hl hf
  rw [fT_deed_b72] at hf
  refine lv_istore (lv' := [(5, .int s0), (0, .ref (wa w 37)), (1, .int l1), (2, .int l2), (3, .int l3), (4, .int l4)]) hx hb dX0_deed_72 hl (by decide) rfl (fun ls hl => ?_)
  refine lv_iload hx hb dX0_deed_74 (lv_at hl 0 rfl) ?_
  refine lv_iload_n hx hb dX0_deed_76 rfl (lv_at hl 4 rfl) ?_
  refine b_icne (tgt := 91) hx hb hf dX0_deed_77 (by decide) (fun hf => ?_) (fun hf => ?_)
  · refine t_new C hI hf rfl in_X12 tyX12 tyX12_ok q239 q813 q176 dfX12 dX0_deed_91 (fun q1 x2 H locs hI hf => ?_)
    refine lv_dup hx hb dX0_deed_94 rfl ?_
    refine lv_iload_n hx hb dX0_deed_95 rfl (lv_at hl 2 rfl) ?_
    refine lv_iload_n hx hb dX0_deed_96 rfl (lv_at hl 3 rfl) ?_
    refine lv_iload_n hx hb dX0_deed_97 rfl (lv_at hl 4 rfl) ?_
    refine lv_iload hx hb dX0_deed_98 (lv_at hl 0 rfl) ?_
    refine lv_iload_n hx hb dX0_deed_100 rfl (lv_at hl 3 rfl) ?_
    refine b_ifeq (tgt := 109) hx hb hf dX0_deed_101 (by decide) (fun hf => ?_) (fun hf => ?_)
    · exact w_fT_deed_b109 C hxt x2 q1 q1 l1 l2 l3 s0 _ _ _ hI (lv_sub hl [1] rfl) hf
    · refine lv_iload_n hx hb dX0_deed_104 rfl (lv_at hl 3 rfl) ?_
      refine lv_iconst (v := 2) hx hb dX0_deed_105 (by decide) ?_
      refine b_icne (tgt := 119) hx hb hf dX0_deed_106 (by decide) (fun hf => ?_) (fun hf => ?_)
      · refine lv_iconst (v := 0) hx hb dX0_deed_119 (by decide) ?_
        exact w_fT_deed_b120 C hxt x2 q1 q1 l1 l2 l3 s0 0 _ _ _ hI (lv_sub hl [] rfl) hf
      · exact w_fT_deed_b109 C hxt x2 q1 q1 l1 l2 l3 s0 _ _ _ hI (lv_sub hl [1] rfl) hf
  · refine t_new C hI hf rfl in_X4 tyX4 tyX4_ok q441 q600 q167 dfX4 dX0_deed_80 (fun q3 x4 H locs hI hf => ?_)
    refine lv_dup hx hb dX0_deed_83 rfl ?_
    refine lv_iconst (v := 2) hx hb dX0_deed_84 (by decide) ?_
    refine lv_iload hx hb dX0_deed_85 (lv_at hl 5 rfl) ?_
    refine t_cIv (rest := [.ref q3]) C hI hf (tmFa_init l _ _ _ _) rfl q637 q636 cn_Fa_init ⟨Nat.le_of_ble_eq_true rfl, Nat.le_of_ble_eq_true rfl⟩ rfl hl.1 rfl (Nat.le_of_ble_eq_true rfl) dX0_deed_87 (fun x5 H locs hI hf => ?_)
    exact x_athrow (mk := ma) (fun _ => rfl) C hxt hI hf dX0_deed_90
def fT_deed (N : Nat) (B : Nat × Nat) (x : TS) : Option (XR Nat) :=
  bx (fT_told N B x 8 0 999) fun v2 x1 =>
  b2 (fT_wordOf N B x1 (tW x1 6)) fun v4 x3 =>
  (fT_isIn N v4 0 3).bind fun v5 =>
  bx (fT_must N B x3 v5) fun _ x6 =>
  (fT_readNext N B x6).bind fun x7 =>
  bx (fT_number N B x7 0 ((tS x7 21) - 1)) fun v9 x8 =>
  if v4 = 2 then
    bx (fT_number N B x8 0 ((tS x8 21) - 1)) fun v11 x10 =>
    fT_deed_b72 N B x10 v2 v4 v9 (tS x8 11) v11
  else
    fT_deed_b72 N B x8 v2 v4 v9 (tS x8 11) (-1)
theorem tmT_deed (l : Launch) (N : Nat) {w : tO} {A : Nat → Prop} (B : Nat × Nat) : ∀ (x : TS) (r : Nat ⊕ Nat) (xr : TS), fT_deed N B x  = some (r, xr) → xMet l yX0_deed (ws_ yX0_deed cX0_deed 6 (some (.object "TwelveChain$Deed"))) frT_deed loT_deed [.ref (wa w 37)] w A B x (ma r) xr := by
  intro x  r xr hf
  refine x_start (cc := cX0_deed) (own := RX0) (by decide +kernel) rfl (Nat.le_of_ble_eq_true rfl) rfl ?_
  intro p e s m args below meth c ls H locs C hxt hI hl
  have hx := C.1.1
  have hb := C.1.2.1
  have hown := C.1.2.2.2.1
  have hts := C.1.2.2.2.2.1
  have hE := C.2.2
  rw [fT_deed] at hf
  refine lv_aload_n hx hb dX0_deed_0 rfl (lv_at hl 0 rfl) ?_
  refine va_ldcS (q := (wk w).1 8) hx hb hown (hE.2.1 (60, "on", 8) (List.mem_of_getElem? (i := 8) rfl)) dX0_deed_1 ?_
  refine lv_iconst (v := 0) hx hb dX0_deed_3 (by decide) ?_
  refine lv_sipush (v := 999) hx hb dX0_deed_4 (by decide) ?_
  refine x_cVi (rest := []) (mr := ma) (fun _ => rfl) C hxt hI hf (tmT_told l N B (by decide) _ _ _) rfl cqX0_T_told ⟨Nat.le_of_ble_eq_true rfl, Nat.le_of_ble_eq_true rfl⟩ rfl hl.1 rfl (Nat.le_of_ble_eq_true rfl) dX0_deed_7 (fun v2 x1 H locs hI hf => ?_)
  refine lv_istore_n (lv' := [(1, .int v2), (0, .ref (wa w 37))]) hx hb dX0_deed_10 rfl hl (by decide) rfl (fun ls hl => ?_)
  refine lv_aload_n hx hb dX0_deed_11 rfl (lv_at hl 1 rfl) ?_
  refine lv_aload_n hx hb dX0_deed_12 rfl (lv_at hl 1 rfl) ?_
  refine tgX0_105 C hI dX0_deed_13 ?_
  refine t_cVi (rest := []) C hI hf (tmT_wordOf l N B _ _) (rv_main C hI) cqX0_T_wordOf ⟨Nat.le_of_ble_eq_true rfl, Nat.le_of_ble_eq_true rfl⟩ rfl hl.1 rfl (Nat.le_of_ble_eq_true rfl) dX0_deed_16 (fun v4 x3 H locs hI hf => ?_)
  refine lv_istore_n (lv' := [(2, .int v4), (1, .int v2), (0, .ref (wa w 37))]) hx hb dX0_deed_19 rfl hl (by decide) rfl (fun ls hl => ?_)
  refine lv_aload_n hx hb dX0_deed_20 rfl (lv_at hl 2 rfl) ?_
  refine lv_iload_n hx hb dX0_deed_21 rfl (lv_at hl 0 rfl) ?_
  refine lv_iconst (v := 0) hx hb dX0_deed_22 (by decide) ?_
  refine lv_iconst (v := 3) hx hb dX0_deed_23 (by decide) ?_
  refine g_calliS (rest := [.ref (wa w 37)]) C.1 hf (smT_isIn l N _ _ _) cqT_T_isIn ⟨rfl, rfl⟩ ⟨Nat.le_of_ble_eq_true rfl, Nat.le_of_ble_eq_true rfl⟩ rfl hl.1 rfl (Nat.le_of_ble_eq_true rfl) (t_room hI) dX0_deed_24 (fun v5 hf => ?_)
  refine x_cVv (rest := []) (mr := ma) (fun _ => rfl) C hxt hI hf (tmT_must l N B _ _) rfl cqX0_T_must ⟨Nat.le_of_ble_eq_true rfl, Nat.le_of_ble_eq_true rfl⟩ rfl hl.1 rfl (Nat.le_of_ble_eq_true rfl) dX0_deed_27 (fun x6 H locs hI hf => ?_)
  refine lv_aload_n hx hb dX0_deed_30 rfl (lv_at hl 2 rfl) ?_
  refine t_cVv (rest := []) C hI hf (tmT_readNext l N B _) (rv_main C hI) cqX0_T_readNext ⟨Nat.le_of_ble_eq_true rfl, Nat.le_of_ble_eq_true rfl⟩ rfl hl.1 rfl (Nat.le_of_ble_eq_true rfl) dX0_deed_31 (fun x7 H locs hI hf => ?_)
  refine lv_aload_n hx hb dX0_deed_34 rfl (lv_at hl 2 rfl) ?_
  refine lv_iconst (v := 0) hx hb dX0_deed_35 (by decide) ?_
  refine lv_aload_n hx hb dX0_deed_36 rfl (lv_at hl 2 rfl) ?_
  refine tgX0_346 C hI dX0_deed_37 ?_
  refine lv_iconst (v := 1) hx hb dX0_deed_40 (by decide) ?_
  refine lv_isub hx hb dX0_deed_41 ?_
  refine x_cVi (rest := []) (mr := ma) (fun _ => rfl) C hxt hI hf (tmT_number l N B _ _ _) rfl cqX0_T_number ⟨Nat.le_of_ble_eq_true rfl, Nat.le_of_ble_eq_true rfl⟩ rfl hl.1 rfl (Nat.le_of_ble_eq_true rfl) dX0_deed_42 (fun v9 x8 H locs hI hf => ?_)
  refine lv_istore_n (lv' := [(3, .int v9), (2, .int v4), (1, .int v2), (0, .ref (wa w 37))]) hx hb dX0_deed_45 rfl hl (by decide) rfl (fun ls hl => ?_)
  refine lv_aload_n hx hb dX0_deed_46 rfl (lv_at hl 3 rfl) ?_
  refine tgX0_199 C hI dX0_deed_47 ?_
  refine lv_istore (lv' := [(4, .int (tS x8 11)), (3, .int v9), (2, .int v4), (1, .int v2), (0, .ref (wa w 37))]) hx hb dX0_deed_50 hl (by decide) rfl (fun ls hl => ?_)
  refine lv_iload_n hx hb dX0_deed_52 rfl (lv_at hl 2 rfl) ?_
  refine lv_iconst (v := 2) hx hb dX0_deed_53 (by decide) ?_
  refine b_icne (tgt := 71) hx hb hf dX0_deed_54 (by decide) (fun hf => ?_) (fun hf => ?_)
  · refine lv_iconst (v := (-1)) hx hb dX0_deed_71 (by decide) ?_
    exact w_fT_deed_b72 C hxt x8 v2 v4 v9 (tS x8 11) (-1) _ _ _ hI (lv_sub hl [4, 3, 2, 1, 0] rfl) hf
  · refine lv_aload_n hx hb dX0_deed_57 rfl (lv_at hl 4 rfl) ?_
    refine lv_iconst (v := 0) hx hb dX0_deed_58 (by decide) ?_
    refine lv_aload_n hx hb dX0_deed_59 rfl (lv_at hl 4 rfl) ?_
    refine tgX0_346 C hI dX0_deed_60 ?_
    refine lv_iconst (v := 1) hx hb dX0_deed_63 (by decide) ?_
    refine lv_isub hx hb dX0_deed_64 ?_
    refine x_cVi (rest := []) (mr := ma) (fun _ => rfl) C hxt hI hf (tmT_number l N B _ _ _) rfl cqX0_T_number ⟨Nat.le_of_ble_eq_true rfl, Nat.le_of_ble_eq_true rfl⟩ rfl hl.1 rfl (Nat.le_of_ble_eq_true rfl) dX0_deed_65 (fun v11 x10 H locs hI hf => ?_)
    refine lv_goto (tgt := 72) hx hb dX0_deed_68 (by decide) ?_
    exact w_fT_deed_b72 C hxt x10 v2 v4 v9 (tS x8 11) v11 _ _ _ hI (lv_sub hl [4, 3, 2, 1, 0] rfl) hf
/-! TwelveChain.readsPlan()[LTwelveChain$Deed; -/
abbrev frT_readsPlan : Nat := 10
abbrev loT_readsPlan : Nat := 234
def fT_readsPlan_b60 (N : Nat) (B : Nat × Nat) : Nat → TS → Nat → Nat → Int32 → Option (XR Nat)
  | 0, _, _, _, _ => none
  | n + 1, x, l1, l3, l4 =>
  (dlR x l3 5).bind fun v1 =>
  if v1 ≤ l4 then
    some (Sum.inr l3, x)
  else
    (dRg x l1 5 l4).bind fun o2 =>
    o2.bind fun q3 =>
    (dRs x l3 5 l4 q3).bind fun x4 =>
    fT_readsPlan_b60 N B n x4 l1 l3 (l4 + 1)
theorem w_fT_readsPlan_b60 {N : Nat} {B : Nat × Nat} {r : Nat ⊕ Nat} {xr : TS} (C : tCx w A p s m args meth c cX0_readsPlan 5 RX0 (some (.array (.object "TwelveChain$Deed")))) (hxt : ∀ z ∈ c.exceptionTable.toList, False) : ∀ (n : Nat) (x : TS) (l1 : Nat) (l3 : Nat) (l4 : Int32) (H : Heap) (locs : List Loc) (ls : Array Slot), tI w A B x s.heap H locs → lv_has ls 5 [(1, .ref l1), (3, .ref l3), (4, .int l4)] → fT_readsPlan_b60 N B n x l1 l3 l4 = some (r, xr) → W p l e (tRm B frT_readsPlan loT_readsPlan s.heap.size (SL s.heap)) s m args below meth c H locs (tZ x - s.heap.size) (tY x - SL s.heap) (xMQ below w A B (ma r) xr args s) (F0 m 60 ls []) := by
  have hx := C.1.1
  have hb := C.1.2.1
  have hown := C.1.2.2.2.1
  have hts := C.1.2.2.2.2.1
  have hE := C.2.2
  intro n
  induction n with
  | zero => intro x l1 l3 l4 H locs ls hI hl hf; rw [fT_readsPlan_b60] at hf; cases hf
  | succ n ih =>
  intro x l1 l3 l4 H locs ls hI hl hf
  rw [fT_readsPlan_b60] at hf
  refine lv_iload hx hb dX0_readsPlan_60 (lv_at hl 2 rfl) ?_
  refine lv_aload_n hx hb dX0_readsPlan_62 rfl (lv_at hl 1 rfl) ?_
  refine t_dlen (code := 5) C hI hf rfl dX0_readsPlan_63 (fun v1 hf => ?_)
  refine b_icge (tgt := 81) hx hb hf dX0_readsPlan_64 (by decide) (fun hf => ?_) (fun hf => ?_)
  · refine lv_aload_n hx hb dX0_readsPlan_81 rfl (lv_at hl 1 rfl) ?_
    exact x_aretA C hI hf dX0_readsPlan_82
  · refine lv_aload_n hx hb dX0_readsPlan_67 rfl (lv_at hl 1 rfl) ?_
    refine lv_iload hx hb dX0_readsPlan_68 (lv_at hl 2 rfl) ?_
    refine lv_aload_n hx hb dX0_readsPlan_70 rfl (lv_at hl 0 rfl) ?_
    refine lv_iload hx hb dX0_readsPlan_71 (lv_at hl 2 rfl) ?_
    refine t_daldR (code := 5) C hI hf rfl dX0_readsPlan_73 (fun o2 hf => ?_)
    refine t_nn (g := F0 m 74 ls) hf (fun q3 _ hf => ?_)
    refine t_dastR (code := 5) C hI hf rfl dX0_readsPlan_74 (fun x4 H locs hI hf => ?_)
    refine lv_iinc (v := l4 + 1) (lv' := [(4, .int (l4 + 1)), (1, .ref l1), (3, .ref l3)]) hx hb dX0_readsPlan_75 hl (k := 2) rfl rfl (by decide) rfl (fun ls hl => ?_)
    refine lv_goto (tgt := 60) hx hb dX0_readsPlan_78 (by decide) ?_
    exact ih x4 l1 l3 (l4 + 1) _ _ _ hI (lv_sub hl [1, 2, 0] rfl) hf
def fT_readsPlan_b8 (N : Nat) (B : Nat × Nat) : Nat → TS → Nat → Int32 → Option (XR Nat)
  | 0, _, _, _ => none
  | n + 1, x, l1, l2 =>
  (tok (tW x 9)).bind fun k1 =>
  if k1 = 0 then
    b2 (nwR B x 5 l2) fun q2 x3 =>
    fT_readsPlan_b60 N B N x3 l1 q2 0
  else
    b2 (fT_isWord N B x 8) fun v5 x4 =>
    bx (fT_must N B x4 v5) fun _ x6 =>
    bx (fT_isRoom N B x6 l2) fun _ x7 =>
    bx (fT_deed N B x7) fun q9 x8 =>
    (dRs x8 l1 5 l2 q9).bind fun x10 =>
    bx (fT_takesSign N B x10 59) fun _ x11 =>
    fT_readsPlan_b8 N B n x11 l1 (l2 + 1)
theorem w_fT_readsPlan_b8 {N : Nat} {B : Nat × Nat} {r : Nat ⊕ Nat} {xr : TS} (C : tCx w A p s m args meth c cX0_readsPlan 5 RX0 (some (.array (.object "TwelveChain$Deed")))) (hxt : ∀ z ∈ c.exceptionTable.toList, False) : ∀ (n : Nat) (x : TS) (l1 : Nat) (l2 : Int32) (H : Heap) (locs : List Loc) (ls : Array Slot), tI w A B x s.heap H locs → lv_has ls 5 [(0, .ref (wa w 37)), (1, .ref l1), (2, .int l2)] → fT_readsPlan_b8 N B n x l1 l2 = some (r, xr) → W p l e (tRm B frT_readsPlan loT_readsPlan s.heap.size (SL s.heap)) s m args below meth c H locs (tZ x - s.heap.size) (tY x - SL s.heap) (xMQ below w A B (ma r) xr args s) (F0 m 8 ls []) := by
  have hx := C.1.1
  have hb := C.1.2.1
  have hown := C.1.2.2.2.1
  have hts := C.1.2.2.2.2.1
  have hE := C.2.2
  intro n
  induction n with
  | zero => intro x l1 l2 H locs ls hI hl hf; rw [fT_readsPlan_b8] at hf; cases hf
  | succ n ih =>
  intro x l1 l2 H locs ls hI hl hf
  rw [fT_readsPlan_b8] at hf
  refine lv_aload_n hx hb dX0_readsPlan_8 rfl (lv_at hl 0 rfl) ?_
  refine t_tok C hI hf q316 dX0_readsPlan_9 (fun k1 hi_k1 hf => ?_)
  refine t_gtok (i := 0) C hI (by decide) rfl q458 dX0_readsPlan_12 ?_
  refine b_aceq (i := k1) (j := 0) (tgt := 52) C hi_k1 (by decide) hf dX0_readsPlan_15 (by decide) (fun hf => ?_) (fun hf => ?_)
  · refine lv_iload_n hx hb dX0_readsPlan_52 rfl (lv_at hl 2 rfl) ?_
    refine t_newR1 (code := 5) C hI hf rfl (by decide) q239 dX0_readsPlan_53 (fun q2 x3 H locs hI hf => ?_)
    refine lv_astore_n (lv' := [(3, .ref q2), (0, .ref (wa w 37)), (1, .ref l1), (2, .int l2)]) hx hb dX0_readsPlan_56 rfl hl (by decide) rfl (fun ls hl => ?_)
    refine lv_iconst (v := 0) hx hb dX0_readsPlan_57 (by decide) ?_
    refine lv_istore (lv' := [(4, .int 0), (3, .ref q2), (0, .ref (wa w 37)), (1, .ref l1), (2, .int l2)]) hx hb dX0_readsPlan_58 hl (by decide) rfl (fun ls hl => ?_)
    exact w_fT_readsPlan_b60 C hxt N x3 l1 q2 0 _ _ _ hI (lv_sub hl [3, 1, 0] rfl) hf
  · refine lv_aload_n hx hb dX0_readsPlan_18 rfl (lv_at hl 0 rfl) ?_
    refine lv_aload_n hx hb dX0_readsPlan_19 rfl (lv_at hl 0 rfl) ?_
    refine va_ldcS (q := (wk w).1 8) hx hb hown (hE.2.1 (60, "on", 8) (List.mem_of_getElem? (i := 8) rfl)) dX0_readsPlan_20 ?_
    refine t_cVi (rest := [.ref (wa w 37)]) C hI hf (tmT_isWord l N B (by decide) _) (rv_main C hI) cqX0_T_isWord ⟨Nat.le_of_ble_eq_true rfl, Nat.le_of_ble_eq_true rfl⟩ rfl hl.1 rfl (Nat.le_of_ble_eq_true rfl) dX0_readsPlan_22 (fun v5 x4 H locs hI hf => ?_)
    refine x_cVv (rest := []) (mr := ma) (fun _ => rfl) C hxt hI hf (tmT_must l N B _ _) rfl cqX0_T_must ⟨Nat.le_of_ble_eq_true rfl, Nat.le_of_ble_eq_true rfl⟩ rfl hl.1 rfl (Nat.le_of_ble_eq_true rfl) dX0_readsPlan_25 (fun x6 H locs hI hf => ?_)
    refine lv_aload_n hx hb dX0_readsPlan_28 rfl (lv_at hl 0 rfl) ?_
    refine lv_iload_n hx hb dX0_readsPlan_29 rfl (lv_at hl 2 rfl) ?_
    refine x_cVv (rest := []) (mr := ma) (fun _ => rfl) C hxt hI hf (tmT_isRoom l N B _ _) rfl cqX0_T_isRoom ⟨Nat.le_of_ble_eq_true rfl, Nat.le_of_ble_eq_true rfl⟩ rfl hl.1 rfl (Nat.le_of_ble_eq_true rfl) dX0_readsPlan_30 (fun x7 H locs hI hf => ?_)
    refine lv_aload_n hx hb dX0_readsPlan_33 rfl (lv_at hl 1 rfl) ?_
    refine lv_iload_n hx hb dX0_readsPlan_34 rfl (lv_at hl 2 rfl) ?_
    refine lv_aload_n hx hb dX0_readsPlan_35 rfl (lv_at hl 0 rfl) ?_
    refine x_cVr (rest := [.int l2, .ref l1]) (mr := ma) (fun _ => rfl) C hxt hI hf (tmT_deed l N B _) rfl cqX0_T_deed ⟨Nat.le_of_ble_eq_true rfl, Nat.le_of_ble_eq_true rfl⟩ rfl hl.1 rfl (Nat.le_of_ble_eq_true rfl) dX0_readsPlan_36 (fun q9 x8 H locs hI hf => ?_)
    refine t_dastR (code := 5) C hI hf rfl dX0_readsPlan_39 (fun x10 H locs hI hf => ?_)
    refine lv_aload_n hx hb dX0_readsPlan_40 rfl (lv_at hl 0 rfl) ?_
    refine lv_bipush (v := 59) hx hb dX0_readsPlan_41 (by decide) ?_
    refine x_cVv (rest := []) (mr := ma) (fun _ => rfl) C hxt hI hf (tmT_takesSign l N B _ _) rfl cqX0_T_takesSign ⟨Nat.le_of_ble_eq_true rfl, Nat.le_of_ble_eq_true rfl⟩ rfl hl.1 rfl (Nat.le_of_ble_eq_true rfl) dX0_readsPlan_43 (fun x11 H locs hI hf => ?_)
    refine lv_iinc (v := l2 + 1) (lv' := [(2, .int (l2 + 1)), (0, .ref (wa w 37)), (1, .ref l1)]) hx hb dX0_readsPlan_46 hl (k := 2) rfl rfl (by decide) rfl (fun ls hl => ?_)
    refine lv_goto (tgt := 8) hx hb dX0_readsPlan_49 (by decide) ?_
    exact ih x11 l1 (l2 + 1) _ _ _ hI (lv_sub hl [1, 2, 0] rfl) hf
def fT_readsPlan (N : Nat) (B : Nat × Nat) (x : TS) : Option (XR Nat) :=
  b2 (nwR B x 5 16) fun q1 x2 =>
  fT_readsPlan_b8 N B N x2 q1 0
theorem tmT_readsPlan (l : Launch) (N : Nat) {w : tO} {A : Nat → Prop} (B : Nat × Nat) : ∀ (x : TS) (r : Nat ⊕ Nat) (xr : TS), fT_readsPlan N B x  = some (r, xr) → xMet l yX0_readsPlan (ws_ yX0_readsPlan cX0_readsPlan 5 (some (.array (.object "TwelveChain$Deed")))) frT_readsPlan loT_readsPlan [.ref (wa w 37)] w A B x (ma r) xr := by
  intro x  r xr hf
  refine x_start (cc := cX0_readsPlan) (own := RX0) (by decide +kernel) rfl (Nat.le_of_ble_eq_true rfl) rfl ?_
  intro p e s m args below meth c ls H locs C hxt hI hl
  have hx := C.1.1
  have hb := C.1.2.1
  have hown := C.1.2.2.2.1
  have hts := C.1.2.2.2.2.1
  have hE := C.2.2
  rw [fT_readsPlan] at hf
  refine lv_bipush (v := 16) hx hb dX0_readsPlan_0 (by decide) ?_
  refine t_newR1 (code := 5) C hI hf rfl (by decide) q239 dX0_readsPlan_2 (fun q1 x2 H locs hI hf => ?_)
  refine lv_astore_n (lv' := [(1, .ref q1), (0, .ref (wa w 37))]) hx hb dX0_readsPlan_5 rfl hl (by decide) rfl (fun ls hl => ?_)
  refine lv_iconst (v := 0) hx hb dX0_readsPlan_6 (by decide) ?_
  refine lv_istore_n (lv' := [(2, .int 0), (1, .ref q1), (0, .ref (wa w 37))]) hx hb dX0_readsPlan_7 rfl hl (by decide) rfl (fun ls hl => ?_)
  exact w_fT_readsPlan_b8 C hxt N x2 q1 0 _ _ _ hI (lv_sub hl [2, 1, 0] rfl) hf
/-! TwelveChain.readsRecords()[LTwelveChain$Wrote; -/
abbrev frT_readsRecords : Nat := 9
abbrev loT_readsRecords : Nat := 209
def fT_readsRecords_b88 (N : Nat) (B : Nat × Nat) : Nat → TS → Nat → Nat → Int32 → Option (XR Nat)
  | 0, _, _, _, _ => none
  | n + 1, x, l1, l3, l4 =>
  (dlR x l3 7).bind fun v1 =>
  if v1 ≤ l4 then
    some (Sum.inr l3, x)
  else
    (dRg x l1 7 l4).bind fun o2 =>
    o2.bind fun q3 =>
    (dRs x l3 7 l4 q3).bind fun x4 =>
    fT_readsRecords_b88 N B n x4 l1 l3 (l4 + 1)
theorem w_fT_readsRecords_b88 {N : Nat} {B : Nat × Nat} {r : Nat ⊕ Nat} {xr : TS} (C : tCx w A p s m args meth c cX0_readsRecords 5 RX0 (some (.array (.object "TwelveChain$Wrote")))) (hxt : ∀ z ∈ c.exceptionTable.toList, False) : ∀ (n : Nat) (x : TS) (l1 : Nat) (l3 : Nat) (l4 : Int32) (H : Heap) (locs : List Loc) (ls : Array Slot), tI w A B x s.heap H locs → lv_has ls 5 [(1, .ref l1), (3, .ref l3), (4, .int l4)] → fT_readsRecords_b88 N B n x l1 l3 l4 = some (r, xr) → W p l e (tRm B frT_readsRecords loT_readsRecords s.heap.size (SL s.heap)) s m args below meth c H locs (tZ x - s.heap.size) (tY x - SL s.heap) (xMQ below w A B (ma r) xr args s) (F0 m 88 ls []) := by
  have hx := C.1.1
  have hb := C.1.2.1
  have hown := C.1.2.2.2.1
  have hts := C.1.2.2.2.2.1
  have hE := C.2.2
  intro n
  induction n with
  | zero => intro x l1 l3 l4 H locs ls hI hl hf; rw [fT_readsRecords_b88] at hf; cases hf
  | succ n ih =>
  intro x l1 l3 l4 H locs ls hI hl hf
  rw [fT_readsRecords_b88] at hf
  refine lv_iload hx hb dX0_readsRecords_88 (lv_at hl 2 rfl) ?_
  refine lv_aload_n hx hb dX0_readsRecords_90 rfl (lv_at hl 1 rfl) ?_
  refine t_dlen (code := 7) C hI hf rfl dX0_readsRecords_91 (fun v1 hf => ?_)
  refine b_icge (tgt := 109) hx hb hf dX0_readsRecords_92 (by decide) (fun hf => ?_) (fun hf => ?_)
  · refine lv_aload_n hx hb dX0_readsRecords_109 rfl (lv_at hl 1 rfl) ?_
    exact x_aretA C hI hf dX0_readsRecords_110
  · refine lv_aload_n hx hb dX0_readsRecords_95 rfl (lv_at hl 1 rfl) ?_
    refine lv_iload hx hb dX0_readsRecords_96 (lv_at hl 2 rfl) ?_
    refine lv_aload_n hx hb dX0_readsRecords_98 rfl (lv_at hl 0 rfl) ?_
    refine lv_iload hx hb dX0_readsRecords_99 (lv_at hl 2 rfl) ?_
    refine t_daldR (code := 7) C hI hf rfl dX0_readsRecords_101 (fun o2 hf => ?_)
    refine t_nn (g := F0 m 102 ls) hf (fun q3 _ hf => ?_)
    refine t_dastR (code := 7) C hI hf rfl dX0_readsRecords_102 (fun x4 H locs hI hf => ?_)
    refine lv_iinc (v := l4 + 1) (lv' := [(4, .int (l4 + 1)), (1, .ref l1), (3, .ref l3)]) hx hb dX0_readsRecords_103 hl (k := 2) rfl rfl (by decide) rfl (fun ls hl => ?_)
    refine lv_goto (tgt := 88) hx hb dX0_readsRecords_106 (by decide) ?_
    exact ih x4 l1 l3 (l4 + 1) _ _ _ hI (lv_sub hl [1, 2, 0] rfl) hf
def fT_readsRecords_b8 (N : Nat) (B : Nat × Nat) : Nat → TS → Nat → Int32 → Option (XR Nat)
  | 0, _, _, _ => none
  | n + 1, x, l1, l2 =>
  (tok (tW x 9)).bind fun k1 =>
  if k1 = 0 then
    b2 (nwR B x 7 l2) fun q2 x3 =>
    fT_readsRecords_b88 N B N x3 l1 q2 0
  else
    b2 (fT_isWord N B x 12) fun v5 x4 =>
    bx (fT_must N B x4 v5) fun _ x6 =>
    bx (fT_isRoom N B x6 l2) fun _ x7 =>
    bx (fT_told N B x7 12 0 999) fun v9 x8 =>
    b2 (alc B x8 2 (dO 10 [.int 0, .int 0])) fun q10 x11 =>
    bx (fT_told N B x11 9 0 ((tS x11 21) - 1)) fun v13 x12 =>
    (fWr_init N B x12 q10 v9 v13).bind fun x14 =>
    (dRs x14 l1 7 l2 q10).bind fun x15 =>
    bx (fT_takesSign N B x15 59) fun _ x16 =>
    fT_readsRecords_b8 N B n x16 l1 (l2 + 1)
theorem w_fT_readsRecords_b8 {N : Nat} {B : Nat × Nat} {r : Nat ⊕ Nat} {xr : TS} (C : tCx w A p s m args meth c cX0_readsRecords 5 RX0 (some (.array (.object "TwelveChain$Wrote")))) (hxt : ∀ z ∈ c.exceptionTable.toList, False) : ∀ (n : Nat) (x : TS) (l1 : Nat) (l2 : Int32) (H : Heap) (locs : List Loc) (ls : Array Slot), tI w A B x s.heap H locs → lv_has ls 5 [(0, .ref (wa w 37)), (1, .ref l1), (2, .int l2)] → fT_readsRecords_b8 N B n x l1 l2 = some (r, xr) → W p l e (tRm B frT_readsRecords loT_readsRecords s.heap.size (SL s.heap)) s m args below meth c H locs (tZ x - s.heap.size) (tY x - SL s.heap) (xMQ below w A B (ma r) xr args s) (F0 m 8 ls []) := by
  have hx := C.1.1
  have hb := C.1.2.1
  have hown := C.1.2.2.2.1
  have hts := C.1.2.2.2.2.1
  have hE := C.2.2
  intro n
  induction n with
  | zero => intro x l1 l2 H locs ls hI hl hf; rw [fT_readsRecords_b8] at hf; cases hf
  | succ n ih =>
  intro x l1 l2 H locs ls hI hl hf
  rw [fT_readsRecords_b8] at hf
  refine lv_aload_n hx hb dX0_readsRecords_8 rfl (lv_at hl 0 rfl) ?_
  refine t_tok C hI hf q316 dX0_readsRecords_9 (fun k1 hi_k1 hf => ?_)
  refine t_gtok (i := 0) C hI (by decide) rfl q458 dX0_readsRecords_12 ?_
  refine b_aceq (i := k1) (j := 0) (tgt := 80) C hi_k1 (by decide) hf dX0_readsRecords_15 (by decide) (fun hf => ?_) (fun hf => ?_)
  · refine lv_iload_n hx hb dX0_readsRecords_80 rfl (lv_at hl 2 rfl) ?_
    refine t_newR1 (code := 7) C hI hf rfl (by decide) q243 dX0_readsRecords_81 (fun q2 x3 H locs hI hf => ?_)
    refine lv_astore_n (lv' := [(3, .ref q2), (0, .ref (wa w 37)), (1, .ref l1), (2, .int l2)]) hx hb dX0_readsRecords_84 rfl hl (by decide) rfl (fun ls hl => ?_)
    refine lv_iconst (v := 0) hx hb dX0_readsRecords_85 (by decide) ?_
    refine lv_istore (lv' := [(4, .int 0), (3, .ref q2), (0, .ref (wa w 37)), (1, .ref l1), (2, .int l2)]) hx hb dX0_readsRecords_86 hl (by decide) rfl (fun ls hl => ?_)
    exact w_fT_readsRecords_b88 C hxt N x3 l1 q2 0 _ _ _ hI (lv_sub hl [3, 1, 0] rfl) hf
  · refine lv_aload_n hx hb dX0_readsRecords_18 rfl (lv_at hl 0 rfl) ?_
    refine lv_aload_n hx hb dX0_readsRecords_19 rfl (lv_at hl 0 rfl) ?_
    refine va_ldcS (q := (wk w).1 12) hx hb hown (hE.2.1 (68, "day", 12) (List.mem_of_getElem? (i := 12) rfl)) dX0_readsRecords_20 ?_
    refine t_cVi (rest := [.ref (wa w 37)]) C hI hf (tmT_isWord l N B (by decide) _) (rv_main C hI) cqX0_T_isWord ⟨Nat.le_of_ble_eq_true rfl, Nat.le_of_ble_eq_true rfl⟩ rfl hl.1 rfl (Nat.le_of_ble_eq_true rfl) dX0_readsRecords_22 (fun v5 x4 H locs hI hf => ?_)
    refine x_cVv (rest := []) (mr := ma) (fun _ => rfl) C hxt hI hf (tmT_must l N B _ _) rfl cqX0_T_must ⟨Nat.le_of_ble_eq_true rfl, Nat.le_of_ble_eq_true rfl⟩ rfl hl.1 rfl (Nat.le_of_ble_eq_true rfl) dX0_readsRecords_25 (fun x6 H locs hI hf => ?_)
    refine lv_aload_n hx hb dX0_readsRecords_28 rfl (lv_at hl 0 rfl) ?_
    refine lv_iload_n hx hb dX0_readsRecords_29 rfl (lv_at hl 2 rfl) ?_
    refine x_cVv (rest := []) (mr := ma) (fun _ => rfl) C hxt hI hf (tmT_isRoom l N B _ _) rfl cqX0_T_isRoom ⟨Nat.le_of_ble_eq_true rfl, Nat.le_of_ble_eq_true rfl⟩ rfl hl.1 rfl (Nat.le_of_ble_eq_true rfl) dX0_readsRecords_30 (fun x7 H locs hI hf => ?_)
    refine lv_aload_n hx hb dX0_readsRecords_33 rfl (lv_at hl 0 rfl) ?_
    refine va_ldcS (q := (wk w).1 12) hx hb hown (hE.2.1 (68, "day", 12) (List.mem_of_getElem? (i := 12) rfl)) dX0_readsRecords_34 ?_
    refine lv_iconst (v := 0) hx hb dX0_readsRecords_36 (by decide) ?_
    refine lv_sipush (v := 999) hx hb dX0_readsRecords_37 (by decide) ?_
    refine x_cVi (rest := []) (mr := ma) (fun _ => rfl) C hxt hI hf (tmT_told l N B (by decide) _ _ _) rfl cqX0_T_told ⟨Nat.le_of_ble_eq_true rfl, Nat.le_of_ble_eq_true rfl⟩ rfl hl.1 rfl (Nat.le_of_ble_eq_true rfl) dX0_readsRecords_40 (fun v9 x8 H locs hI hf => ?_)
    refine lv_istore_n (lv' := [(3, .int v9), (0, .ref (wa w 37)), (1, .ref l1), (2, .int l2)]) hx hb dX0_readsRecords_43 rfl hl (by decide) rfl (fun ls hl => ?_)
    refine lv_aload_n hx hb dX0_readsRecords_44 rfl (lv_at hl 2 rfl) ?_
    refine lv_iload_n hx hb dX0_readsRecords_45 rfl (lv_at hl 3 rfl) ?_
    refine t_new C hI hf rfl in_X11 tyX11 tyX11_ok q243 q793 q175 dfX11 dX0_readsRecords_46 (fun q10 x11 H locs hI hf => ?_)
    refine lv_dup hx hb dX0_readsRecords_49 rfl ?_
    refine lv_iload_n hx hb dX0_readsRecords_50 rfl (lv_at hl 0 rfl) ?_
    refine lv_aload_n hx hb dX0_readsRecords_51 rfl (lv_at hl 1 rfl) ?_
    refine va_ldcS (q := (wk w).1 9) hx hb hown (hE.2.1 (62, "link", 9) (List.mem_of_getElem? (i := 9) rfl)) dX0_readsRecords_52 ?_
    refine lv_iconst (v := 0) hx hb dX0_readsRecords_54 (by decide) ?_
    refine lv_aload_n hx hb dX0_readsRecords_55 rfl (lv_at hl 1 rfl) ?_
    refine tgX0_346 C hI dX0_readsRecords_56 ?_
    refine lv_iconst (v := 1) hx hb dX0_readsRecords_59 (by decide) ?_
    refine lv_isub hx hb dX0_readsRecords_60 ?_
    refine x_cVi (rest := [.int v9, .ref q10, .ref q10, .int l2, .ref l1]) (mr := ma) (fun _ => rfl) C hxt hI hf (tmT_told l N B (by decide) _ _ _) rfl cqX0_T_told ⟨Nat.le_of_ble_eq_true rfl, Nat.le_of_ble_eq_true rfl⟩ rfl hl.1 rfl (Nat.le_of_ble_eq_true rfl) dX0_readsRecords_61 (fun v13 x12 H locs hI hf => ?_)
    refine t_cINv (rest := [.ref q10, .int l2, .ref l1]) C hI hf (tmWr_init l N B _ _ _ _) rfl q795 (List.mem_of_getElem? (i := 3) rfl) cn_Wr_init ⟨Nat.le_of_ble_eq_true rfl, Nat.le_of_ble_eq_true rfl⟩ rfl hl.1 rfl (Nat.le_of_ble_eq_true rfl) dX0_readsRecords_64 (fun x14 H locs hI hf => ?_)
    refine t_dastR (code := 7) C hI hf rfl dX0_readsRecords_67 (fun x15 H locs hI hf => ?_)
    refine lv_aload_n hx hb dX0_readsRecords_68 rfl (lv_at hl 1 rfl) ?_
    refine lv_bipush (v := 59) hx hb dX0_readsRecords_69 (by decide) ?_
    refine x_cVv (rest := []) (mr := ma) (fun _ => rfl) C hxt hI hf (tmT_takesSign l N B _ _) rfl cqX0_T_takesSign ⟨Nat.le_of_ble_eq_true rfl, Nat.le_of_ble_eq_true rfl⟩ rfl hl.1 rfl (Nat.le_of_ble_eq_true rfl) dX0_readsRecords_71 (fun x16 H locs hI hf => ?_)
    refine lv_iinc (v := l2 + 1) (lv' := [(2, .int (l2 + 1)), (3, .int v9), (0, .ref (wa w 37)), (1, .ref l1)]) hx hb dX0_readsRecords_74 hl (k := 3) rfl rfl (by decide) rfl (fun ls hl => ?_)
    refine lv_goto (tgt := 8) hx hb dX0_readsRecords_77 (by decide) ?_
    exact ih x16 l1 (l2 + 1) _ _ _ hI (lv_sub hl [2, 3, 0] rfl) hf
def fT_readsRecords (N : Nat) (B : Nat × Nat) (x : TS) : Option (XR Nat) :=
  b2 (nwR B x 7 16) fun q1 x2 =>
  fT_readsRecords_b8 N B N x2 q1 0
theorem tmT_readsRecords (l : Launch) (N : Nat) {w : tO} {A : Nat → Prop} (B : Nat × Nat) : ∀ (x : TS) (r : Nat ⊕ Nat) (xr : TS), fT_readsRecords N B x  = some (r, xr) → xMet l yX0_readsRecords (ws_ yX0_readsRecords cX0_readsRecords 5 (some (.array (.object "TwelveChain$Wrote")))) frT_readsRecords loT_readsRecords [.ref (wa w 37)] w A B x (ma r) xr := by
  intro x  r xr hf
  refine x_start (cc := cX0_readsRecords) (own := RX0) (by decide +kernel) rfl (Nat.le_of_ble_eq_true rfl) rfl ?_
  intro p e s m args below meth c ls H locs C hxt hI hl
  have hx := C.1.1
  have hb := C.1.2.1
  have hown := C.1.2.2.2.1
  have hts := C.1.2.2.2.2.1
  have hE := C.2.2
  rw [fT_readsRecords] at hf
  refine lv_bipush (v := 16) hx hb dX0_readsRecords_0 (by decide) ?_
  refine t_newR1 (code := 7) C hI hf rfl (by decide) q243 dX0_readsRecords_2 (fun q1 x2 H locs hI hf => ?_)
  refine lv_astore_n (lv' := [(1, .ref q1), (0, .ref (wa w 37))]) hx hb dX0_readsRecords_5 rfl hl (by decide) rfl (fun ls hl => ?_)
  refine lv_iconst (v := 0) hx hb dX0_readsRecords_6 (by decide) ?_
  refine lv_istore_n (lv' := [(2, .int 0), (1, .ref q1), (0, .ref (wa w 37))]) hx hb dX0_readsRecords_7 rfl hl (by decide) rfl (fun ls hl => ?_)
  exact w_fT_readsRecords_b8 C hxt N x2 q1 0 _ _ _ hI (lv_sub hl [2, 1, 0] rfl) hf
/-! TwelveChain.readsText(I)I -/
abbrev frT_readsText : Nat := 50
abbrev loT_readsText : Nat := 1419
def fT_readsText_b80 (N : Nat) (B : Nat × Nat) (x : TS) : Option (XR Int32) :=
  bx (fT_readsPlan N B x) fun q2 x1 =>
  (tR (sTS (sTR x1 18 (some q2)) 27 0) 18).bind fun q3 =>
  (dlR (sTS (sTR x1 18 (some q2)) 27 0) q3 5).bind fun v4 =>
  some (Sum.inr v4, sTS (sTR x1 18 (some q2)) 27 0)
theorem w_fT_readsText_b80 {N : Nat} {B : Nat × Nat} {r : Nat ⊕ Int32} {xr : TS} (C : tCx w A p s m args meth c cX0_readsText 2 RX0 (some .int)) (hxt : ∀ z ∈ c.exceptionTable.toList, False) : ∀ (x : TS) (H : Heap) (locs : List Loc) (ls : Array Slot), tI w A B x s.heap H locs → lv_has ls 2 [(0, .ref (wa w 37))] → fT_readsText_b80 N B x = some (r, xr) → W p l e (tRm B frT_readsText loT_readsText s.heap.size (SL s.heap)) s m args below meth c H locs (tZ x - s.heap.size) (tY x - SL s.heap) (xMQ below w A B (mi r) xr args s) (F0 m 80 ls []) := by
  have hx := C.1.1
  have hb := C.1.2.1
  have hown := C.1.2.2.2.1
  have hts := C.1.2.2.2.2.1
  have hE := C.2.2
  intro x H locs ls hI hl hf
  rw [fT_readsText_b80] at hf
  refine lv_aload_n hx hb dX0_readsText_80 rfl (lv_at hl 0 rfl) ?_
  refine lv_aload_n hx hb dX0_readsText_81 rfl (lv_at hl 0 rfl) ?_
  refine x_cVr (rest := [.ref (wa w 37)]) (mr := mi) (fun _ => rfl) C hxt hI hf (tmT_readsPlan l N B _) rfl cqX0_T_readsPlan ⟨Nat.le_of_ble_eq_true rfl, Nat.le_of_ble_eq_true rfl⟩ rfl hl.1 rfl (Nat.le_of_ble_eq_true rfl) dX0_readsText_82 (fun q2 x1 H locs hI hf => ?_)
  refine tpX0_131 (v := some q2) C hI dX0_readsText_85 (fun H locs hI => ?_)
  refine lv_aload_n hx hb dX0_readsText_88 rfl (lv_at hl 0 rfl) ?_
  refine lv_iconst (v := 0) hx hb dX0_readsText_89 (by decide) ?_
  refine tpX0_377 C hI dX0_readsText_90 (fun H locs hI => ?_)
  refine lv_aload_n hx hb dX0_readsText_93 rfl (lv_at hl 0 rfl) ?_
  refine tgX0_131 C hI dX0_readsText_94 ?_
  refine t_nn (g := F0 m 97 ls) hf (fun q3 _ hf => ?_)
  refine t_dlen (code := 5) C hI hf rfl dX0_readsText_97 (fun v4 hf => ?_)
  exact x_iret C hI hf dX0_readsText_98
def fT_readsText (N : Nat) (B : Nat × Nat) (x : TS) (l1 : Int32) : Option (XR Int32) :=
  (fT_openText N B x l1).bind fun x1 =>
  if l1 = 0 then
    bx (fT_readsLaw N B x1) fun q4 x3 =>
    (tR (sTR x3 16 (some q4)) 16).bind fun q5 =>
    (dgI (sTR x3 16 (some q4)) q5 2 3).bind fun v6 =>
    some (Sum.inr v6, sTR x3 16 (some q4))
  else if l1 = 1 then
    fT_readsText_b80 N B x1
  else if l1 = 2 then
    bx (fT_readsPhones N B x1) fun q10 x9 =>
    (tR (sTR x9 19 (some q10)) 19).bind fun q11 =>
    (dlR (sTR x9 19 (some q10)) q11 6).bind fun v12 =>
    some (Sum.inr v12, sTR x9 19 (some q10))
  else if l1 = 3 then
    bx (fT_readsRecords N B x1) fun q15 x14 =>
    (tR (sTR x14 20 (some q15)) 20).bind fun q16 =>
    (dlR (sTR x14 20 (some q15)) q16 7).bind fun v17 =>
    some (Sum.inr v17, sTR x14 20 (some q15))
  else 
    fT_readsText_b80 N B x1
theorem tmT_readsText (l : Launch) (N : Nat) {w : tO} {A : Nat → Prop} (B : Nat × Nat) : ∀ (x : TS) (l1 : Int32) (r : Nat ⊕ Int32) (xr : TS), fT_readsText N B x l1 = some (r, xr) → xMet l yX0_readsText (ws_ yX0_readsText cX0_readsText 2 (some .int)) frT_readsText loT_readsText [.ref (wa w 37), .int l1] w A B x (mi r) xr := by
  intro x l1 r xr hf
  refine x_start (cc := cX0_readsText) (own := RX0) (by decide +kernel) rfl (Nat.le_of_ble_eq_true rfl) rfl ?_
  intro p e s m args below meth c ls H locs C hxt hI hl
  have hx := C.1.1
  have hb := C.1.2.1
  have hown := C.1.2.2.2.1
  have hts := C.1.2.2.2.2.1
  have hE := C.2.2
  rw [fT_readsText] at hf
  refine lv_aload_n hx hb dX0_readsText_0 rfl (lv_at hl 0 rfl) ?_
  refine lv_iload_n hx hb dX0_readsText_1 rfl (lv_at hl 1 rfl) ?_
  refine t_cVv (rest := []) C hI hf (tmT_openText l N B _ _) (rv_main C hI) cqX0_T_openText ⟨Nat.le_of_ble_eq_true rfl, Nat.le_of_ble_eq_true rfl⟩ rfl hl.1 rfl (Nat.le_of_ble_eq_true rfl) dX0_readsText_2 (fun x1 H locs hI hf => ?_)
  refine lv_iload_n hx hb dX0_readsText_5 rfl (lv_at hl 1 rfl) ?_
  refine b_tIn (k := 0) (j := 0) (tgt := 36) hx hb hf dX0_readsText_6 (by decide +kernel) rfl (by decide) (fun hf => ?_) (fun h2 hf => ?_)
  · refine lv_aload_n hx hb dX0_readsText_36 rfl (lv_at hl 0 rfl) ?_
    refine lv_aload_n hx hb dX0_readsText_37 rfl (lv_at hl 0 rfl) ?_
    refine x_cVr (rest := [.ref (wa w 37)]) (mr := mi) (fun _ => rfl) C hxt hI hf (tmT_readsLaw l N B _) rfl cqX0_T_readsLaw ⟨Nat.le_of_ble_eq_true rfl, Nat.le_of_ble_eq_true rfl⟩ rfl hl.1 rfl (Nat.le_of_ble_eq_true rfl) dX0_readsText_38 (fun q4 x3 H locs hI hf => ?_)
    refine tpX0_121 (v := some q4) C hI dX0_readsText_41 (fun H locs hI => ?_)
    refine lv_aload_n hx hb dX0_readsText_44 rfl (lv_at hl 0 rfl) ?_
    refine tgX0_121 C hI dX0_readsText_45 ?_
    refine t_nn (g := F0 m 48 ls) hf (fun q5 _ hf => ?_)
    refine tgX0_316 C hI hf dX0_readsText_48 (fun v6 hf => ?_)
    exact x_iret C hI hf dX0_readsText_51
  refine b_tIn (k := 1) (j := 1) (tgt := 80) hx hb hf dX0_readsText_6 (by decide +kernel) rfl (by decide) (fun hf => ?_) (fun h7 hf => ?_)
  · exact w_fT_readsText_b80 C hxt x1 _ _ _ hI (lv_sub hl [0] rfl) hf
  refine b_tIn (k := 2) (j := 2) (tgt := 52) hx hb hf dX0_readsText_6 (by decide +kernel) rfl (by decide) (fun hf => ?_) (fun h8 hf => ?_)
  · refine lv_aload_n hx hb dX0_readsText_52 rfl (lv_at hl 0 rfl) ?_
    refine lv_aload_n hx hb dX0_readsText_53 rfl (lv_at hl 0 rfl) ?_
    refine x_cVr (rest := [.ref (wa w 37)]) (mr := mi) (fun _ => rfl) C hxt hI hf (tmT_readsPhones l N B _) rfl cqX0_T_readsPhones ⟨Nat.le_of_ble_eq_true rfl, Nat.le_of_ble_eq_true rfl⟩ rfl hl.1 rfl (Nat.le_of_ble_eq_true rfl) dX0_readsText_54 (fun q10 x9 H locs hI hf => ?_)
    refine tpX0_137 (v := some q10) C hI dX0_readsText_57 (fun H locs hI => ?_)
    refine lv_aload_n hx hb dX0_readsText_60 rfl (lv_at hl 0 rfl) ?_
    refine tgX0_137 C hI dX0_readsText_61 ?_
    refine t_nn (g := F0 m 64 ls) hf (fun q11 _ hf => ?_)
    refine t_dlen (code := 6) C hI hf rfl dX0_readsText_64 (fun v12 hf => ?_)
    exact x_iret C hI hf dX0_readsText_65
  refine b_tIn (k := 3) (j := 3) (tgt := 66) hx hb hf dX0_readsText_6 (by decide +kernel) rfl (by decide) (fun hf => ?_) (fun h13 hf => ?_)
  · refine lv_aload_n hx hb dX0_readsText_66 rfl (lv_at hl 0 rfl) ?_
    refine lv_aload_n hx hb dX0_readsText_67 rfl (lv_at hl 0 rfl) ?_
    refine x_cVr (rest := [.ref (wa w 37)]) (mr := mi) (fun _ => rfl) C hxt hI hf (tmT_readsRecords l N B _) rfl cqX0_T_readsRecords ⟨Nat.le_of_ble_eq_true rfl, Nat.le_of_ble_eq_true rfl⟩ rfl hl.1 rfl (Nat.le_of_ble_eq_true rfl) dX0_readsText_68 (fun q15 x14 H locs hI hf => ?_)
    refine tpX0_143 (v := some q15) C hI dX0_readsText_71 (fun H locs hI => ?_)
    refine lv_aload_n hx hb dX0_readsText_74 rfl (lv_at hl 0 rfl) ?_
    refine tgX0_143 C hI dX0_readsText_75 ?_
    refine t_nn (g := F0 m 78 ls) hf (fun q16 _ hf => ?_)
    refine t_dlen (code := 7) C hI hf rfl dX0_readsText_78 (fun v17 hf => ?_)
    exact x_iret C hI hf dX0_readsText_79
  have h2 : l1.toInt ≠ 0 := sw_ne h2
  have h7 : l1.toInt ≠ 1 := sw_ne h7
  have h8 : l1.toInt ≠ 2 := sw_ne h8
  have h13 : l1.toInt ≠ 3 := sw_ne h13
  refine lv_tableOut (tgt := 80) hx hb dX0_readsText_6 (by omega) (by decide) ?_
  exact w_fT_readsText_b80 C hxt x1 _ _ _ hI (lv_sub hl [0] rfl) hf
