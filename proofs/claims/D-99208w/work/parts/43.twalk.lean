set_option maxRecDepth 100000
variable {p : Program} {l : Launch} {e : Env} {R : Room} {s : State} {m : MethodId} {args : Array Value} {below : List Frame} {meth : Method} {c : Code} {H : Heap} {locs : List Loc} {Q : State → Prop}
variable {w : tO} {A : Nat → Prop}
/-! TwelveChain.lambda$hurry$1(II)I -/
abbrev frT_lambda_hurry_1 : Nat := 408
abbrev loT_lambda_hurry_1 : Nat := 12199
def fT_lambda_hurry_1 (N : Nat) (B : Nat × Nat) (x : TS) (l1 : Int32) (l2 : Int32) : Option (Int32 × TS) :=
  b2 (fT_oddsHurried N B x l2 l1) fun v2 x1 =>
  some (-v2, x1)
theorem tmT_lambda_hurry_1 (l : Launch) (N : Nat) {w : tO} {A : Nat → Prop} (B : Nat × Nat) : ∀ (x : TS) (l1 : Int32) (l2 : Int32) (r : Int32) (xr : TS), fT_lambda_hurry_1 N B x l1 l2 = some (r, xr) → tMet l yX0_lambda_hurry_1 (ws_ yX0_lambda_hurry_1 cX0_lambda_hurry_1 3 (some .int)) frT_lambda_hurry_1 loT_lambda_hurry_1 [.ref (wa w 37), .int l1, .int l2] w A B x (some (.int r)) xr := by
  intro x l1 l2 r xr hf
  refine t_start (cc := cX0_lambda_hurry_1) (own := RX0) (by decide +kernel) rfl (Nat.le_of_ble_eq_true rfl) rfl ?_
  intro p e s m args below meth c ls H locs C hmn hI hl
  have hx := C.1.1
  have hb := C.1.2.1
  have hown := C.1.2.2.2.1
  have hts := C.1.2.2.2.2.1
  have hE := C.2.2
  rw [fT_lambda_hurry_1] at hf
  refine lv_aload_n hx hb dX0_lambda_hurry_1_0 rfl (lv_at hl 0 rfl) ?_
  refine lv_iload_n hx hb dX0_lambda_hurry_1_1 rfl (lv_at hl 2 rfl) ?_
  refine lv_iload_n hx hb dX0_lambda_hurry_1_2 rfl (lv_at hl 1 rfl) ?_
  refine t_cVi (rest := []) C hI hf (tmT_oddsHurried l N B _ _ _) (rv_main C hI) cqX0_T_oddsHurried ⟨Nat.le_of_ble_eq_true rfl, Nat.le_of_ble_eq_true rfl⟩ rfl hl.1 rfl (Nat.le_of_ble_eq_true rfl) dX0_lambda_hurry_1_3 (fun v2 x1 H locs hI hf => ?_)
  refine lv_ineg hx hb dX0_lambda_hurry_1_6 ?_
  exact t_iret C hI hf dX0_lambda_hurry_1_7
/-! TwelveChain.worstPart(II)I -/
abbrev frT_worstPart : Nat := 407
abbrev loT_worstPart : Nat := 12175
def fT_worstPart_b7 (N : Nat) (B : Nat × Nat) : Nat → TS → Int32 → Int32 → Int32 → Int32 → Option (Int32 × TS)
  | 0, _, _, _, _, _ => none
  | n + 1, x, l1, l2, l3, l4 =>
  if (tS x 21) ≤ l4 then
    some (l3, x)
  else
    b2 (fC_beginsPart N B x 0 l4 l1) fun v2 x1 =>
    if v2 = 0 then
      fT_worstPart_b7 N B n x1 l1 l2 l3 (l4 + 1)
    else
      b2 (fC_endOf N B x1 0 l4 l1) fun v4 x3 =>
      b2 (fT_oddsFrom N B x3 l4 v4 l2) fun v6 x5 =>
      (fJm_min N l3 v6).bind fun v7 =>
      fT_worstPart_b7 N B n x5 l1 l2 v7 (l4 + 1)
theorem w_fT_worstPart_b7 {N : Nat} {B : Nat × Nat} {r : Int32} {xr : TS} (C : tCx w A p s m args meth c cX0_worstPart 5 RX0 (some .int)) : ∀ (n : Nat) (x : TS) (l1 : Int32) (l2 : Int32) (l3 : Int32) (l4 : Int32) (H : Heap) (locs : List Loc) (ls : Array Slot), tI w A B x s.heap H locs → lv_has ls 5 [(0, .ref (wa w 37)), (1, .int l1), (2, .int l2), (3, .int l3), (4, .int l4)] → fT_worstPart_b7 N B n x l1 l2 l3 l4 = some (r, xr) → W p l e (tRm B frT_worstPart loT_worstPart s.heap.size (SL s.heap)) s m args below meth c H locs (tZ x - s.heap.size) (tY x - SL s.heap) (MQ below (tQ w A B (some (.int r)) xr) args s (B.1 - s.heap.size) (B.2 - SL s.heap) A) (F0 m 7 ls []) := by
  have hx := C.1.1
  have hb := C.1.2.1
  have hown := C.1.2.2.2.1
  have hts := C.1.2.2.2.2.1
  have hE := C.2.2
  intro n
  induction n with
  | zero => intro x l1 l2 l3 l4 H locs ls hI hl hf; rw [fT_worstPart_b7] at hf; cases hf
  | succ n ih =>
  intro x l1 l2 l3 l4 H locs ls hI hl hf
  rw [fT_worstPart_b7] at hf
  refine lv_iload hx hb dX0_worstPart_7 (lv_at hl 4 rfl) ?_
  refine lv_aload_n hx hb dX0_worstPart_9 rfl (lv_at hl 0 rfl) ?_
  refine tgX0_346 C hI dX0_worstPart_10 ?_
  refine b_icge (tgt := 57) hx hb hf dX0_worstPart_13 (by decide) (fun hf => ?_) (fun hf => ?_)
  · refine lv_iload_n hx hb dX0_worstPart_57 rfl (lv_at hl 3 rfl) ?_
    exact t_iret C hI hf dX0_worstPart_58
  · refine lv_aload_n hx hb dX0_worstPart_16 rfl (lv_at hl 0 rfl) ?_
    refine tgX0_152 C hI dX0_worstPart_17 ?_
    refine lv_iload hx hb dX0_worstPart_20 (lv_at hl 4 rfl) ?_
    refine lv_iload_n hx hb dX0_worstPart_22 rfl (lv_at hl 1 rfl) ?_
    refine t_cVi (rest := []) C hI hf (tmC_beginsPart l N B (tI.l3 hI (by decide)) _ _ _) (rv_chain C hI (tI.l3 hI (by decide))) cqX0_C_beginsPart ⟨Nat.le_of_ble_eq_true rfl, Nat.le_of_ble_eq_true rfl⟩ rfl hl.1 rfl (Nat.le_of_ble_eq_true rfl) dX0_worstPart_23 (fun v2 x1 H locs hI hf => ?_)
    refine b_ifeq (tgt := 51) hx hb hf dX0_worstPart_26 (by decide) (fun hf => ?_) (fun hf => ?_)
    · refine lv_iinc (v := l4 + 1) (lv' := [(4, .int (l4 + 1)), (0, .ref (wa w 37)), (1, .int l1), (2, .int l2), (3, .int l3)]) hx hb dX0_worstPart_51 hl (k := 4) rfl rfl (by decide) rfl (fun ls hl => ?_)
      refine lv_goto (tgt := 7) hx hb dX0_worstPart_54 (by decide) ?_
      exact ih x1 l1 l2 l3 (l4 + 1) _ _ _ hI (lv_sub hl [1, 2, 3, 4, 0] rfl) hf
    · refine lv_iload_n hx hb dX0_worstPart_29 rfl (lv_at hl 3 rfl) ?_
      refine lv_aload_n hx hb dX0_worstPart_30 rfl (lv_at hl 0 rfl) ?_
      refine lv_iload hx hb dX0_worstPart_31 (lv_at hl 4 rfl) ?_
      refine lv_aload_n hx hb dX0_worstPart_33 rfl (lv_at hl 0 rfl) ?_
      refine tgX0_152 C hI dX0_worstPart_34 ?_
      refine lv_iload hx hb dX0_worstPart_37 (lv_at hl 4 rfl) ?_
      refine lv_iload_n hx hb dX0_worstPart_39 rfl (lv_at hl 1 rfl) ?_
      refine t_cVi (rest := [.int l4, .ref (wa w 37), .int l3]) C hI hf (tmC_endOf l N B (tI.l3 hI (by decide)) _ _ _) (rv_chain C hI (tI.l3 hI (by decide))) cqX0_C_endOf ⟨Nat.le_of_ble_eq_true rfl, Nat.le_of_ble_eq_true rfl⟩ rfl hl.1 rfl (Nat.le_of_ble_eq_true rfl) dX0_worstPart_40 (fun v4 x3 H locs hI hf => ?_)
      refine lv_iload_n hx hb dX0_worstPart_43 rfl (lv_at hl 2 rfl) ?_
      refine t_cVi (rest := [.int l3]) C hI hf (tmT_oddsFrom l N B _ _ _ _) (rv_main C hI) cqX0_T_oddsFrom ⟨Nat.le_of_ble_eq_true rfl, Nat.le_of_ble_eq_true rfl⟩ rfl hl.1 rfl (Nat.le_of_ble_eq_true rfl) dX0_worstPart_44 (fun v6 x5 H locs hI hf => ?_)
      refine g_calliS (rest := []) C.1 hf (smJm_min l N _ _) cqT_Jm_min ⟨rfl, rfl⟩ ⟨Nat.le_of_ble_eq_true rfl, Nat.le_of_ble_eq_true rfl⟩ rfl hl.1 rfl (Nat.le_of_ble_eq_true rfl) (t_room hI) dX0_worstPart_47 (fun v7 hf => ?_)
      refine lv_istore_n (lv' := [(3, .int v7), (0, .ref (wa w 37)), (1, .int l1), (2, .int l2), (4, .int l4)]) hx hb dX0_worstPart_50 rfl hl (by decide) rfl (fun ls hl => ?_)
      refine lv_iinc (v := l4 + 1) (lv' := [(4, .int (l4 + 1)), (3, .int v7), (0, .ref (wa w 37)), (1, .int l1), (2, .int l2)]) hx hb dX0_worstPart_51 hl (k := 4) rfl rfl (by decide) rfl (fun ls hl => ?_)
      refine lv_goto (tgt := 7) hx hb dX0_worstPart_54 (by decide) ?_
      exact ih x5 l1 l2 v7 (l4 + 1) _ _ _ hI (lv_sub hl [2, 3, 4, 1, 0] rfl) hf
def fT_worstPart (N : Nat) (B : Nat × Nat) (x : TS) (l1 : Int32) (l2 : Int32) : Option (Int32 × TS) :=
  fT_worstPart_b7 N B N x l1 l2 1000000 0
theorem tmT_worstPart (l : Launch) (N : Nat) {w : tO} {A : Nat → Prop} (B : Nat × Nat) : ∀ (x : TS) (l1 : Int32) (l2 : Int32) (r : Int32) (xr : TS), fT_worstPart N B x l1 l2 = some (r, xr) → tMet l yX0_worstPart (ws_ yX0_worstPart cX0_worstPart 5 (some .int)) frT_worstPart loT_worstPart [.ref (wa w 37), .int l1, .int l2] w A B x (some (.int r)) xr := by
  intro x l1 l2 r xr hf
  refine t_start (cc := cX0_worstPart) (own := RX0) (by decide +kernel) rfl (Nat.le_of_ble_eq_true rfl) rfl ?_
  intro p e s m args below meth c ls H locs C hmn hI hl
  have hx := C.1.1
  have hb := C.1.2.1
  have hown := C.1.2.2.2.1
  have hts := C.1.2.2.2.2.1
  have hE := C.2.2
  rw [fT_worstPart] at hf
  refine lv_ldcw hx hb hown (hts _ q1162) dX0_worstPart_0 ?_
  refine lv_istore_n (lv' := [(3, .int 1000000), (0, .ref (wa w 37)), (1, .int l1), (2, .int l2)]) hx hb dX0_worstPart_3 rfl hl (by decide) rfl (fun ls hl => ?_)
  refine lv_iconst (v := 0) hx hb dX0_worstPart_4 (by decide) ?_
  refine lv_istore (lv' := [(4, .int 0), (3, .int 1000000), (0, .ref (wa w 37)), (1, .int l1), (2, .int l2)]) hx hb dX0_worstPart_5 hl (by decide) rfl (fun ls hl => ?_)
  exact w_fT_worstPart_b7 C N x l1 l2 1000000 0 _ _ _ hI (lv_sub hl [2, 3, 4, 1, 0] rfl) hf
/-! TwelveChain.split(II)I -/
abbrev frT_split : Nat := 408
abbrev loT_split : Nat := 12199
def fT_split_b29 (N : Nat) (B : Nat × Nat) : Nat → TS → Int32 → Int32 → Int32 → Int32 → Int32 → Option (Int32 × TS)
  | 0, _, _, _, _, _, _ => none
  | n + 1, x, l1, l2, l3, l4, l5 =>
  if (tS x 21) ≤ l5 then
    lt (if l2 = 0 then l3 else l4 : Int32) fun v1 =>
    some (v1, x)
  else
    b2 (fC_canBridge N B x 0 l5) fun v3 x2 =>
    if v3 = 0 then
      fT_split_b29 N B n x2 l1 l2 l3 l4 (l5 + 1)
    else
      b2 (fT_worstPart N B x2 ((tF x2 0 7) ||| (1 <<< (l5 &&& 31))) l1) fun v5 x4 =>
      lt (if v5 ≤ l4 then l3 else l5 : Int32) fun v6 =>
      (fJm_max N l4 v5).bind fun v7 =>
      fT_split_b29 N B n x4 l1 l2 v6 v7 (l5 + 1)
theorem w_fT_split_b29 {N : Nat} {B : Nat × Nat} {r : Int32} {xr : TS} (C : tCx w A p s m args meth c cX0_split 7 RX0 (some .int)) : ∀ (n : Nat) (x : TS) (l1 : Int32) (l2 : Int32) (l3 : Int32) (l4 : Int32) (l5 : Int32) (H : Heap) (locs : List Loc) (ls : Array Slot), tI w A B x s.heap H locs → lv_has ls 7 [(0, .ref (wa w 37)), (1, .int l1), (2, .int l2), (3, .int l3), (4, .int l4), (5, .int l5)] → fT_split_b29 N B n x l1 l2 l3 l4 l5 = some (r, xr) → W p l e (tRm B frT_split loT_split s.heap.size (SL s.heap)) s m args below meth c H locs (tZ x - s.heap.size) (tY x - SL s.heap) (MQ below (tQ w A B (some (.int r)) xr) args s (B.1 - s.heap.size) (B.2 - SL s.heap) A) (F0 m 29 ls []) := by
  have hx := C.1.1
  have hb := C.1.2.1
  have hown := C.1.2.2.2.1
  have hts := C.1.2.2.2.2.1
  have hE := C.2.2
  intro n
  induction n with
  | zero => intro x l1 l2 l3 l4 l5 H locs ls hI hl hf; rw [fT_split_b29] at hf; cases hf
  | succ n ih =>
  intro x l1 l2 l3 l4 l5 H locs ls hI hl hf
  rw [fT_split_b29] at hf
  refine lv_iload hx hb dX0_split_29 (lv_at hl 5 rfl) ?_
  refine lv_aload_n hx hb dX0_split_31 rfl (lv_at hl 0 rfl) ?_
  refine tgX0_346 C hI dX0_split_32 ?_
  refine b_icge (tgt := 101) hx hb hf dX0_split_35 (by decide) (fun hf => ?_) (fun hf => ?_)
  · refine lv_iload_n hx hb dX0_split_101 rfl (lv_at hl 2 rfl) ?_
    suffices hJ : ∀ v1 : Int32, (v1 = (if l2 = 0 then l3 else l4 : Int32)) → W p l e (tRm B frT_split loT_split s.heap.size (SL s.heap)) s m args below meth c H locs (tZ x - s.heap.size) (tY x - SL s.heap) (MQ below (tQ w A B (some (.int r)) xr) args s (B.1 - s.heap.size) (B.2 - SL s.heap) A) (F0 m 111 ls [.int v1]) by
      refine lv_if_ne (tgt := 109) hx hb dX0_split_102 (by decide) (fun hc => ?_) (fun hc => ?_)
      · refine lv_iload hx hb dX0_split_109 (lv_at hl 4 rfl) ?_
        exact hJ _ (if_neg hc).symm
      · refine lv_iload_n hx hb dX0_split_105 rfl (lv_at hl 3 rfl) ?_
        refine lv_goto (tgt := 111) hx hb dX0_split_106 (by decide) ?_
        exact hJ _ (if_pos hc).symm
    intro v1 hv
    have hf := lt_of hv hf
    exact t_iret C hI hf dX0_split_111
  · refine lv_aload_n hx hb dX0_split_38 rfl (lv_at hl 0 rfl) ?_
    refine tgX0_152 C hI dX0_split_39 ?_
    refine lv_iload hx hb dX0_split_42 (lv_at hl 5 rfl) ?_
    refine t_cVi (rest := []) C hI hf (tmC_canBridge l N B (tI.l3 hI (by decide)) _ _) (rv_chain C hI (tI.l3 hI (by decide))) cqX0_C_canBridge ⟨Nat.le_of_ble_eq_true rfl, Nat.le_of_ble_eq_true rfl⟩ rfl hl.1 rfl (Nat.le_of_ble_eq_true rfl) dX0_split_44 (fun v3 x2 H locs hI hf => ?_)
    refine b_ifne (tgt := 53) hx hb hf dX0_split_47 (by decide) (fun hf => ?_) (fun hf => ?_)
    · refine lv_aload_n hx hb dX0_split_53 rfl (lv_at hl 0 rfl) ?_
      refine lv_aload_n hx hb dX0_split_54 rfl (lv_at hl 0 rfl) ?_
      refine tgX0_152 C hI dX0_split_55 ?_
      refine tgX0_420 C hI (tI.l3 hI (by decide)) dX0_split_58 ?_
      refine lv_iconst (v := 1) hx hb dX0_split_61 (by decide) ?_
      refine lv_iload hx hb dX0_split_62 (lv_at hl 5 rfl) ?_
      refine lv_ishl hx hb dX0_split_64 ?_
      refine lv_ior hx hb dX0_split_65 ?_
      refine lv_iload_n hx hb dX0_split_66 rfl (lv_at hl 1 rfl) ?_
      refine t_cVi (rest := []) C hI hf (tmT_worstPart l N B _ _ _) (rv_main C hI) cqX0_T_worstPart ⟨Nat.le_of_ble_eq_true rfl, Nat.le_of_ble_eq_true rfl⟩ rfl hl.1 rfl (Nat.le_of_ble_eq_true rfl) dX0_split_67 (fun v5 x4 H locs hI hf => ?_)
      refine lv_istore (lv' := [(6, .int v5), (0, .ref (wa w 37)), (1, .int l1), (2, .int l2), (3, .int l3), (4, .int l4), (5, .int l5)]) hx hb dX0_split_70 hl (by decide) rfl (fun ls hl => ?_)
      refine lv_iload hx hb dX0_split_72 (lv_at hl 0 rfl) ?_
      refine lv_iload hx hb dX0_split_74 (lv_at hl 5 rfl) ?_
      suffices hJ : ∀ v6 : Int32, (v6 = (if v5 ≤ l4 then l3 else l5 : Int32)) → W p l e (tRm B frT_split loT_split s.heap.size (SL s.heap)) s m args below meth c H locs (tZ x4 - s.heap.size) (tY x4 - SL s.heap) (MQ below (tQ w A B (some (.int r)) xr) args s (B.1 - s.heap.size) (B.2 - SL s.heap) A) (F0 m 85 ls [.int v6]) by
        refine lv_icmp_le (tgt := 84) hx hb dX0_split_76 (by decide) (fun hc => ?_) (fun hc => ?_)
        · refine lv_iload_n hx hb dX0_split_84 rfl (lv_at hl 4 rfl) ?_
          exact hJ _ (if_pos hc).symm
        · refine lv_iload hx hb dX0_split_79 (lv_at hl 6 rfl) ?_
          refine lv_goto (tgt := 85) hx hb dX0_split_81 (by decide) ?_
          exact hJ _ (if_neg hc).symm
      intro v6 hv
      have hf := lt_of hv hf
      refine lv_istore_n (lv' := [(3, .int v6), (6, .int v5), (0, .ref (wa w 37)), (1, .int l1), (2, .int l2), (4, .int l4), (5, .int l5)]) hx hb dX0_split_85 rfl hl (by decide) rfl (fun ls hl => ?_)
      refine lv_iload hx hb dX0_split_86 (lv_at hl 5 rfl) ?_
      refine lv_iload hx hb dX0_split_88 (lv_at hl 1 rfl) ?_
      refine g_calliS (rest := []) C.1 hf (smJm_max l N _ _) cqT_Jm_max ⟨rfl, rfl⟩ ⟨Nat.le_of_ble_eq_true rfl, Nat.le_of_ble_eq_true rfl⟩ rfl hl.1 rfl (Nat.le_of_ble_eq_true rfl) (t_room hI) dX0_split_90 (fun v7 hf => ?_)
      refine lv_istore (lv' := [(4, .int v7), (3, .int v6), (6, .int v5), (0, .ref (wa w 37)), (1, .int l1), (2, .int l2), (5, .int l5)]) hx hb dX0_split_93 hl (by decide) rfl (fun ls hl => ?_)
      refine lv_iinc (v := l5 + 1) (lv' := [(5, .int (l5 + 1)), (4, .int v7), (3, .int v6), (6, .int v5), (0, .ref (wa w 37)), (1, .int l1), (2, .int l2)]) hx hb dX0_split_95 hl (k := 6) rfl rfl (by decide) rfl (fun ls hl => ?_)
      refine lv_goto (tgt := 29) hx hb dX0_split_98 (by decide) ?_
      exact ih x4 l1 l2 v6 v7 (l5 + 1) _ _ _ hI (lv_sub hl [4, 5, 6, 2, 1, 0] rfl) hf
    · refine lv_goto (tgt := 95) hx hb dX0_split_50 (by decide) ?_
      refine lv_iinc (v := l5 + 1) (lv' := [(5, .int (l5 + 1)), (0, .ref (wa w 37)), (1, .int l1), (2, .int l2), (3, .int l3), (4, .int l4)]) hx hb dX0_split_95 hl (k := 5) rfl rfl (by decide) rfl (fun ls hl => ?_)
      refine lv_goto (tgt := 29) hx hb dX0_split_98 (by decide) ?_
      exact ih x2 l1 l2 l3 l4 (l5 + 1) _ _ _ hI (lv_sub hl [1, 2, 3, 4, 5, 0] rfl) hf
def fT_split (N : Nat) (B : Nat × Nat) (x : TS) (l1 : Int32) (l2 : Int32) : Option (Int32 × TS) :=
  (fT_isIn N l1 1 60).bind fun v1 =>
  if v1 = 0 then
    some ((-1), x)
  else
    (fT_isIn N l2 0 1).bind fun v2 =>
    if v2 = 0 then
      some ((-1), x)
    else
      fT_split_b29 N B N x l1 l2 (-1) (-1) 0
theorem tmT_split (l : Launch) (N : Nat) {w : tO} {A : Nat → Prop} (B : Nat × Nat) : ∀ (x : TS) (l1 : Int32) (l2 : Int32) (r : Int32) (xr : TS), fT_split N B x l1 l2 = some (r, xr) → tMet l yX0_split (ws_ yX0_split cX0_split 7 (some .int)) frT_split loT_split [.ref (wa w 37), .int l1, .int l2] w A B x (some (.int r)) xr := by
  intro x l1 l2 r xr hf
  refine t_start (cc := cX0_split) (own := RX0) (by decide +kernel) rfl (Nat.le_of_ble_eq_true rfl) rfl ?_
  intro p e s m args below meth c ls H locs C hmn hI hl
  have hx := C.1.1
  have hb := C.1.2.1
  have hown := C.1.2.2.2.1
  have hts := C.1.2.2.2.2.1
  have hE := C.2.2
  rw [fT_split] at hf
  refine lv_iload_n hx hb dX0_split_0 rfl (lv_at hl 1 rfl) ?_
  refine lv_iconst (v := 1) hx hb dX0_split_1 (by decide) ?_
  refine lv_bipush (v := 60) hx hb dX0_split_2 (by decide) ?_
  refine g_calliS (rest := []) C.1 hf (smT_isIn l N _ _ _) cqT_T_isIn ⟨rfl, rfl⟩ ⟨Nat.le_of_ble_eq_true rfl, Nat.le_of_ble_eq_true rfl⟩ rfl hl.1 rfl (Nat.le_of_ble_eq_true rfl) (t_room hI) dX0_split_4 (fun v1 hf => ?_)
  refine b_ifeq (tgt := 19) hx hb hf dX0_split_7 (by decide) (fun hf => ?_) (fun hf => ?_)
  · refine lv_iconst (v := (-1)) hx hb dX0_split_19 (by decide) ?_
    exact t_iret C hI hf dX0_split_20
  · refine lv_iload_n hx hb dX0_split_10 rfl (lv_at hl 2 rfl) ?_
    refine lv_iconst (v := 0) hx hb dX0_split_11 (by decide) ?_
    refine lv_iconst (v := 1) hx hb dX0_split_12 (by decide) ?_
    refine g_calliS (rest := []) C.1 hf (smT_isIn l N _ _ _) cqT_T_isIn ⟨rfl, rfl⟩ ⟨Nat.le_of_ble_eq_true rfl, Nat.le_of_ble_eq_true rfl⟩ rfl hl.1 rfl (Nat.le_of_ble_eq_true rfl) (t_room hI) dX0_split_13 (fun v2 hf => ?_)
    refine b_ifne (tgt := 21) hx hb hf dX0_split_16 (by decide) (fun hf => ?_) (fun hf => ?_)
    · refine lv_iconst (v := (-1)) hx hb dX0_split_21 (by decide) ?_
      refine lv_istore_n (lv' := [(3, .int (-1)), (0, .ref (wa w 37)), (1, .int l1), (2, .int l2)]) hx hb dX0_split_22 rfl hl (by decide) rfl (fun ls hl => ?_)
      refine lv_iconst (v := (-1)) hx hb dX0_split_23 (by decide) ?_
      refine lv_istore (lv' := [(4, .int (-1)), (3, .int (-1)), (0, .ref (wa w 37)), (1, .int l1), (2, .int l2)]) hx hb dX0_split_24 hl (by decide) rfl (fun ls hl => ?_)
      refine lv_iconst (v := 0) hx hb dX0_split_26 (by decide) ?_
      refine lv_istore (lv' := [(5, .int 0), (4, .int (-1)), (3, .int (-1)), (0, .ref (wa w 37)), (1, .int l1), (2, .int l2)]) hx hb dX0_split_27 hl (by decide) rfl (fun ls hl => ?_)
      exact w_fT_split_b29 C N x l1 l2 (-1) (-1) 0 _ _ _ hI (lv_sub hl [3, 4, 5, 2, 1, 0] rfl) hf
    · refine lv_iconst (v := (-1)) hx hb dX0_split_19 (by decide) ?_
      exact t_iret C hI hf dX0_split_20
/-! TwelveChain.along(III)I -/
abbrev frT_along : Nat := 405
abbrev loT_along : Nat := 12128
def fT_along_b78 (N : Nat) (B : Nat × Nat) (k39 : TS → Int32 → Int32 → Int32 → Int32 → Option (Int32 × TS)) (x : TS) (l3 : Int32) (l4 : Int32) (l5 : Int32) (l6 : Int32) (s0 : Int32) : Option (Int32 × TS) :=
  lt (if s0 ≤ 0 then 0 else 1 : Int32) fun v1 =>
  k39 x l3 (l4 - s0) (l5 + v1) (l6 + 1)
theorem w_fT_along_b78 {N : Nat} {B : Nat × Nat} {r : Int32} {xr : TS} {k39 : TS → Int32 → Int32 → Int32 → Int32 → Option (Int32 × TS)} (C : tCx w A p s m args meth c cX0_along 8 RX0 (some .int)) (hk39 : ∀ (x : TS) (l3 : Int32) (l4 : Int32) (l5 : Int32) (l6 : Int32) (H : Heap) (locs : List Loc) (ls : Array Slot), tI w A B x s.heap H locs → lv_has ls 8 [(0, .ref (wa w 37)), (3, .int l3), (4, .int l4), (5, .int l5), (6, .int l6)] → k39 x l3 l4 l5 l6 = some (r, xr) → W p l e (tRm B frT_along loT_along s.heap.size (SL s.heap)) s m args below meth c H locs (tZ x - s.heap.size) (tY x - SL s.heap) (MQ below (tQ w A B (some (.int r)) xr) args s (B.1 - s.heap.size) (B.2 - SL s.heap) A) (F0 m 39 ls [])) : ∀ (x : TS) (l3 : Int32) (l4 : Int32) (l5 : Int32) (l6 : Int32) (s0 : Int32) (H : Heap) (locs : List Loc) (ls : Array Slot), tI w A B x s.heap H locs → lv_has ls 8 [(0, .ref (wa w 37)), (3, .int l3), (4, .int l4), (5, .int l5), (6, .int l6)] → fT_along_b78 N B k39 x l3 l4 l5 l6 s0 = some (r, xr) → W p l e (tRm B frT_along loT_along s.heap.size (SL s.heap)) s m args below meth c H locs (tZ x - s.heap.size) (tY x - SL s.heap) (MQ below (tQ w A B (some (.int r)) xr) args s (B.1 - s.heap.size) (B.2 - SL s.heap) A) (F0 m 78 ls [.int s0]) := by
  have hx := C.1.1
  have hb := C.1.2.1
  have hown := C.1.2.2.2.1
  have hts := C.1.2.2.2.2.1
  have hE := C.2.2
  intro x l3 l4 l5 l6 s0 H locs ls hI hl hf
  rw [fT_along_b78] at hf
  refine lv_istore (lv' := [(7, .int s0), (0, .ref (wa w 37)), (3, .int l3), (4, .int l4), (5, .int l5), (6, .int l6)]) hx hb dX0_along_78 hl (by decide) rfl (fun ls hl => ?_)
  refine lv_iload hx hb dX0_along_80 (lv_at hl 3 rfl) ?_
  refine lv_iload hx hb dX0_along_82 (lv_at hl 0 rfl) ?_
  refine lv_isub hx hb dX0_along_84 ?_
  refine lv_istore (lv' := [(4, .int (l4 - s0)), (7, .int s0), (0, .ref (wa w 37)), (3, .int l3), (5, .int l5), (6, .int l6)]) hx hb dX0_along_85 hl (by decide) rfl (fun ls hl => ?_)
  refine lv_iload hx hb dX0_along_87 (lv_at hl 4 rfl) ?_
  refine lv_iload hx hb dX0_along_89 (lv_at hl 1 rfl) ?_
  suffices hJ : ∀ v1 : Int32, (v1 = (if s0 ≤ 0 then 0 else 1 : Int32)) → W p l e (tRm B frT_along loT_along s.heap.size (SL s.heap)) s m args below meth c H locs (tZ x - s.heap.size) (tY x - SL s.heap) (MQ below (tQ w A B (some (.int r)) xr) args s (B.1 - s.heap.size) (B.2 - SL s.heap) A) (F0 m 99 ls [.int v1, .int l5]) by
    refine lv_if_le (tgt := 98) hx hb dX0_along_91 (by decide) (fun hc => ?_) (fun hc => ?_)
    · refine lv_iconst (v := 0) hx hb dX0_along_98 (by decide) ?_
      exact hJ _ (if_pos hc).symm
    · refine lv_iconst (v := 1) hx hb dX0_along_94 (by decide) ?_
      refine lv_goto (tgt := 99) hx hb dX0_along_95 (by decide) ?_
      exact hJ _ (if_neg hc).symm
  intro v1 hv
  have hf := lt_of hv hf
  refine lv_iadd hx hb dX0_along_99 ?_
  refine lv_istore (lv' := [(5, .int (l5 + v1)), (4, .int (l4 - s0)), (7, .int s0), (0, .ref (wa w 37)), (3, .int l3), (6, .int l6)]) hx hb dX0_along_100 hl (by decide) rfl (fun ls hl => ?_)
  refine lv_iinc (v := l6 + 1) (lv' := [(6, .int (l6 + 1)), (5, .int (l5 + v1)), (4, .int (l4 - s0)), (7, .int s0), (0, .ref (wa w 37)), (3, .int l3)]) hx hb dX0_along_102 hl (k := 5) rfl rfl (by decide) rfl (fun ls hl => ?_)
  refine lv_goto (tgt := 39) hx hb dX0_along_105 (by decide) ?_
  exact hk39 x l3 (l4 - s0) (l5 + v1) (l6 + 1) _ _ _ hI (lv_sub hl [4, 5, 2, 1, 0] rfl) hf
def fT_along_b39 (N : Nat) (B : Nat × Nat) : Nat → TS → Int32 → Int32 → Int32 → Int32 → Option (Int32 × TS)
  | 0, _, _, _, _, _ => none
  | n + 1, x, l3, l4, l5, l6 =>
  if (tS x 21) ≤ l6 then
    lt (if l3 = 0 then l4 else l5 : Int32) fun v1 =>
    some (v1, x)
  else
    b2 (fC_isThere N B x 0 l6) fun v3 x2 =>
    if v3 = 0 then
      fT_along_b78 N B (fT_along_b39 N B n) x2 l3 l4 l5 l6 0
    else
      b2 (fC_giveOf N B x2 0 l6) fun v5 x4 =>
      (fJm_min N l4 v5).bind fun v6 =>
      fT_along_b78 N B (fT_along_b39 N B n) x4 l3 l4 l5 l6 v6
theorem w_fT_along_b39 {N : Nat} {B : Nat × Nat} {r : Int32} {xr : TS} (C : tCx w A p s m args meth c cX0_along 8 RX0 (some .int)) : ∀ (n : Nat) (x : TS) (l3 : Int32) (l4 : Int32) (l5 : Int32) (l6 : Int32) (H : Heap) (locs : List Loc) (ls : Array Slot), tI w A B x s.heap H locs → lv_has ls 8 [(0, .ref (wa w 37)), (3, .int l3), (4, .int l4), (5, .int l5), (6, .int l6)] → fT_along_b39 N B n x l3 l4 l5 l6 = some (r, xr) → W p l e (tRm B frT_along loT_along s.heap.size (SL s.heap)) s m args below meth c H locs (tZ x - s.heap.size) (tY x - SL s.heap) (MQ below (tQ w A B (some (.int r)) xr) args s (B.1 - s.heap.size) (B.2 - SL s.heap) A) (F0 m 39 ls []) := by
  have hx := C.1.1
  have hb := C.1.2.1
  have hown := C.1.2.2.2.1
  have hts := C.1.2.2.2.2.1
  have hE := C.2.2
  intro n
  induction n with
  | zero => intro x l3 l4 l5 l6 H locs ls hI hl hf; rw [fT_along_b39] at hf; cases hf
  | succ n ih =>
  intro x l3 l4 l5 l6 H locs ls hI hl hf
  rw [fT_along_b39] at hf
  refine lv_iload hx hb dX0_along_39 (lv_at hl 4 rfl) ?_
  refine lv_aload_n hx hb dX0_along_41 rfl (lv_at hl 0 rfl) ?_
  refine tgX0_346 C hI dX0_along_42 ?_
  refine b_icge (tgt := 108) hx hb hf dX0_along_45 (by decide) (fun hf => ?_) (fun hf => ?_)
  · refine lv_iload_n hx hb dX0_along_108 rfl (lv_at hl 1 rfl) ?_
    suffices hJ : ∀ v1 : Int32, (v1 = (if l3 = 0 then l4 else l5 : Int32)) → W p l e (tRm B frT_along loT_along s.heap.size (SL s.heap)) s m args below meth c H locs (tZ x - s.heap.size) (tY x - SL s.heap) (MQ below (tQ w A B (some (.int r)) xr) args s (B.1 - s.heap.size) (B.2 - SL s.heap) A) (F0 m 119 ls [.int v1]) by
      refine lv_if_ne (tgt := 117) hx hb dX0_along_109 (by decide) (fun hc => ?_) (fun hc => ?_)
      · refine lv_iload hx hb dX0_along_117 (lv_at hl 3 rfl) ?_
        exact hJ _ (if_neg hc).symm
      · refine lv_iload hx hb dX0_along_112 (lv_at hl 2 rfl) ?_
        refine lv_goto (tgt := 119) hx hb dX0_along_114 (by decide) ?_
        exact hJ _ (if_pos hc).symm
    intro v1 hv
    have hf := lt_of hv hf
    exact t_iret C hI hf dX0_along_119
  · refine lv_aload_n hx hb dX0_along_48 rfl (lv_at hl 0 rfl) ?_
    refine tgX0_152 C hI dX0_along_49 ?_
    refine lv_iload hx hb dX0_along_52 (lv_at hl 4 rfl) ?_
    refine t_cVi (rest := []) C hI hf (tmC_isThere l N B (tI.l3 hI (by decide)) _ _) (rv_chain C hI (tI.l3 hI (by decide))) cqX0_C_isThere ⟨Nat.le_of_ble_eq_true rfl, Nat.le_of_ble_eq_true rfl⟩ rfl hl.1 rfl (Nat.le_of_ble_eq_true rfl) dX0_along_54 (fun v3 x2 H locs hI hf => ?_)
    refine b_ifeq (tgt := 77) hx hb hf dX0_along_57 (by decide) (fun hf => ?_) (fun hf => ?_)
    · refine lv_iconst (v := 0) hx hb dX0_along_77 (by decide) ?_
      exact w_fT_along_b78 C ih x2 l3 l4 l5 l6 0 _ _ _ hI (lv_sub hl [0, 1, 2, 3, 4] rfl) hf
    · refine lv_iload hx hb dX0_along_60 (lv_at hl 2 rfl) ?_
      refine lv_aload_n hx hb dX0_along_62 rfl (lv_at hl 0 rfl) ?_
      refine tgX0_152 C hI dX0_along_63 ?_
      refine lv_iload hx hb dX0_along_66 (lv_at hl 4 rfl) ?_
      refine t_cVi (rest := [.int l4]) C hI hf (tmC_giveOf l N B (tI.l3 hI (by decide)) _ _) (rv_chain C hI (tI.l3 hI (by decide))) cqX0_C_giveOf ⟨Nat.le_of_ble_eq_true rfl, Nat.le_of_ble_eq_true rfl⟩ rfl hl.1 rfl (Nat.le_of_ble_eq_true rfl) dX0_along_68 (fun v5 x4 H locs hI hf => ?_)
      refine g_calliS (rest := []) C.1 hf (smJm_min l N _ _) cqT_Jm_min ⟨rfl, rfl⟩ ⟨Nat.le_of_ble_eq_true rfl, Nat.le_of_ble_eq_true rfl⟩ rfl hl.1 rfl (Nat.le_of_ble_eq_true rfl) (t_room hI) dX0_along_71 (fun v6 hf => ?_)
      refine lv_goto (tgt := 78) hx hb dX0_along_74 (by decide) ?_
      exact w_fT_along_b78 C ih x4 l3 l4 l5 l6 v6 _ _ _ hI (lv_sub hl [0, 1, 2, 3, 4] rfl) hf
def fT_along (N : Nat) (B : Nat × Nat) (x : TS) (l1 : Int32) (l2 : Int32) (l3 : Int32) : Option (Int32 × TS) :=
  b2 (fT_isLink N B x l1) fun v2 x1 =>
  if v2 = 0 then
    some ((-1), x1)
  else
    (fT_isIn N l2 0 999).bind fun v3 =>
    if v3 = 0 then
      some ((-1), x1)
    else
      (fT_isIn N l3 0 1).bind fun v4 =>
      if v4 = 0 then
        some ((-1), x1)
      else
        fT_along_b39 N B N x1 l3 l2 0 l1
theorem tmT_along (l : Launch) (N : Nat) {w : tO} {A : Nat → Prop} (B : Nat × Nat) : ∀ (x : TS) (l1 : Int32) (l2 : Int32) (l3 : Int32) (r : Int32) (xr : TS), fT_along N B x l1 l2 l3 = some (r, xr) → tMet l yX0_along (ws_ yX0_along cX0_along 8 (some .int)) frT_along loT_along [.ref (wa w 37), .int l1, .int l2, .int l3] w A B x (some (.int r)) xr := by
  intro x l1 l2 l3 r xr hf
  refine t_start (cc := cX0_along) (own := RX0) (by decide +kernel) rfl (Nat.le_of_ble_eq_true rfl) rfl ?_
  intro p e s m args below meth c ls H locs C hmn hI hl
  have hx := C.1.1
  have hb := C.1.2.1
  have hown := C.1.2.2.2.1
  have hts := C.1.2.2.2.2.1
  have hE := C.2.2
  rw [fT_along] at hf
  refine lv_aload_n hx hb dX0_along_0 rfl (lv_at hl 0 rfl) ?_
  refine lv_iload_n hx hb dX0_along_1 rfl (lv_at hl 1 rfl) ?_
  refine t_cVi (rest := []) C hI hf (tmT_isLink l N B _ _) (rv_main C hI) cqX0_T_isLink ⟨Nat.le_of_ble_eq_true rfl, Nat.le_of_ble_eq_true rfl⟩ rfl hl.1 rfl (Nat.le_of_ble_eq_true rfl) dX0_along_2 (fun v2 x1 H locs hI hf => ?_)
  refine b_ifeq (tgt := 28) hx hb hf dX0_along_5 (by decide) (fun hf => ?_) (fun hf => ?_)
  · refine lv_iconst (v := (-1)) hx hb dX0_along_28 (by decide) ?_
    exact t_iret C hI hf dX0_along_29
  · refine lv_iload_n hx hb dX0_along_8 rfl (lv_at hl 2 rfl) ?_
    refine lv_iconst (v := 0) hx hb dX0_along_9 (by decide) ?_
    refine lv_sipush (v := 999) hx hb dX0_along_10 (by decide) ?_
    refine g_calliS (rest := []) C.1 hf (smT_isIn l N _ _ _) cqT_T_isIn ⟨rfl, rfl⟩ ⟨Nat.le_of_ble_eq_true rfl, Nat.le_of_ble_eq_true rfl⟩ rfl hl.1 rfl (Nat.le_of_ble_eq_true rfl) (t_room hI) dX0_along_13 (fun v3 hf => ?_)
    refine b_ifeq (tgt := 28) hx hb hf dX0_along_16 (by decide) (fun hf => ?_) (fun hf => ?_)
    · refine lv_iconst (v := (-1)) hx hb dX0_along_28 (by decide) ?_
      exact t_iret C hI hf dX0_along_29
    · refine lv_iload_n hx hb dX0_along_19 rfl (lv_at hl 3 rfl) ?_
      refine lv_iconst (v := 0) hx hb dX0_along_20 (by decide) ?_
      refine lv_iconst (v := 1) hx hb dX0_along_21 (by decide) ?_
      refine g_calliS (rest := []) C.1 hf (smT_isIn l N _ _ _) cqT_T_isIn ⟨rfl, rfl⟩ ⟨Nat.le_of_ble_eq_true rfl, Nat.le_of_ble_eq_true rfl⟩ rfl hl.1 rfl (Nat.le_of_ble_eq_true rfl) (t_room hI) dX0_along_22 (fun v4 hf => ?_)
      refine b_ifne (tgt := 30) hx hb hf dX0_along_25 (by decide) (fun hf => ?_) (fun hf => ?_)
      · refine lv_iload_n hx hb dX0_along_30 rfl (lv_at hl 2 rfl) ?_
        refine lv_istore (lv' := [(4, .int l2), (0, .ref (wa w 37)), (1, .int l1), (2, .int l2), (3, .int l3)]) hx hb dX0_along_31 hl (by decide) rfl (fun ls hl => ?_)
        refine lv_iconst (v := 0) hx hb dX0_along_33 (by decide) ?_
        refine lv_istore (lv' := [(5, .int 0), (4, .int l2), (0, .ref (wa w 37)), (1, .int l1), (2, .int l2), (3, .int l3)]) hx hb dX0_along_34 hl (by decide) rfl (fun ls hl => ?_)
        refine lv_iload_n hx hb dX0_along_36 rfl (lv_at hl 3 rfl) ?_
        refine lv_istore (lv' := [(6, .int l1), (5, .int 0), (4, .int l2), (0, .ref (wa w 37)), (1, .int l1), (2, .int l2), (3, .int l3)]) hx hb dX0_along_37 hl (by decide) rfl (fun ls hl => ?_)
        exact w_fT_along_b39 C N x1 l3 l2 0 l1 _ _ _ hI (lv_sub hl [3, 6, 2, 1, 0] rfl) hf
      · refine lv_iconst (v := (-1)) hx hb dX0_along_28 (by decide) ?_
        exact t_iret C hI hf dX0_along_29
/-! TwelveChain.choice(IIII)I -/
abbrev frT_choice : Nat := 405
abbrev loT_choice : Nat := 12128
def fT_choice (N : Nat) (B : Nat × Nat) (x : TS) (l1 : Int32) (l2 : Int32) (l3 : Int32) (l4 : Int32) : Option (Int32 × TS) :=
  b2 (fT_isLink N B x l1) fun v2 x1 =>
  if v2 = 0 then
    some ((-100000), x1)
  else
    (fT_isIn N l2 0 999).bind fun v3 =>
    if v3 = 0 then
      some ((-100000), x1)
    else
      (fT_isIn N l3 0 1000).bind fun v4 =>
      if v4 = 0 then
        some ((-100000), x1)
      else
        (fT_isIn N l4 0 1).bind fun v5 =>
        if v5 = 0 then
          some ((-100000), x1)
        else
          (rd 12 (tC x1 0 2) l1).bind fun v6 =>
          (fJm_max N (v6 - l2) 0).bind fun v7 =>
          (fJm_floorDiv N ((l3 * v6) + ((1000 - l3) * v7)) 1000).bind fun v8 =>
          b2 (fC_costOf N B x1 0 l1) fun v10 x9 =>
          (fJm_max N (v8 - v10) 0).bind fun v11 =>
          (fJm_max N (v6 - l2) v11).bind fun v12 =>
          if l4 = 1 then
            some (v12, x9)
          else
            if v12 = (v6 - l2) then
              some (0, x9)
            else
              if v12 = (v8 - v10) then
                some (1, x9)
              else
                some (2, x9)
theorem tmT_choice (l : Launch) (N : Nat) {w : tO} {A : Nat → Prop} (B : Nat × Nat) : ∀ (x : TS) (l1 : Int32) (l2 : Int32) (l3 : Int32) (l4 : Int32) (r : Int32) (xr : TS), fT_choice N B x l1 l2 l3 l4 = some (r, xr) → tMet l yX0_choice (ws_ yX0_choice cX0_choice 9 (some .int)) frT_choice loT_choice [.ref (wa w 37), .int l1, .int l2, .int l3, .int l4] w A B x (some (.int r)) xr := by
  intro x l1 l2 l3 l4 r xr hf
  refine t_start (cc := cX0_choice) (own := RX0) (by decide +kernel) rfl (Nat.le_of_ble_eq_true rfl) rfl ?_
  intro p e s m args below meth c ls H locs C hmn hI hl
  have hx := C.1.1
  have hb := C.1.2.1
  have hown := C.1.2.2.2.1
  have hts := C.1.2.2.2.2.1
  have hE := C.2.2
  rw [fT_choice] at hf
  refine lv_aload_n hx hb dX0_choice_0 rfl (lv_at hl 0 rfl) ?_
  refine lv_iload_n hx hb dX0_choice_1 rfl (lv_at hl 1 rfl) ?_
  refine t_cVi (rest := []) C hI hf (tmT_isLink l N B _ _) (rv_main C hI) cqX0_T_isLink ⟨Nat.le_of_ble_eq_true rfl, Nat.le_of_ble_eq_true rfl⟩ rfl hl.1 rfl (Nat.le_of_ble_eq_true rfl) dX0_choice_2 (fun v2 x1 H locs hI hf => ?_)
  refine b_ifeq (tgt := 40) hx hb hf dX0_choice_5 (by decide) (fun hf => ?_) (fun hf => ?_)
  · refine lv_ldcw hx hb hown (hts _ q1097) dX0_choice_40 ?_
    exact t_iret C hI hf dX0_choice_43
  · refine lv_iload_n hx hb dX0_choice_8 rfl (lv_at hl 2 rfl) ?_
    refine lv_iconst (v := 0) hx hb dX0_choice_9 (by decide) ?_
    refine lv_sipush (v := 999) hx hb dX0_choice_10 (by decide) ?_
    refine g_calliS (rest := []) C.1 hf (smT_isIn l N _ _ _) cqT_T_isIn ⟨rfl, rfl⟩ ⟨Nat.le_of_ble_eq_true rfl, Nat.le_of_ble_eq_true rfl⟩ rfl hl.1 rfl (Nat.le_of_ble_eq_true rfl) (t_room hI) dX0_choice_13 (fun v3 hf => ?_)
    refine b_ifeq (tgt := 40) hx hb hf dX0_choice_16 (by decide) (fun hf => ?_) (fun hf => ?_)
    · refine lv_ldcw hx hb hown (hts _ q1097) dX0_choice_40 ?_
      exact t_iret C hI hf dX0_choice_43
    · refine lv_iload_n hx hb dX0_choice_19 rfl (lv_at hl 3 rfl) ?_
      refine lv_iconst (v := 0) hx hb dX0_choice_20 (by decide) ?_
      refine lv_sipush (v := 1000) hx hb dX0_choice_21 (by decide) ?_
      refine g_calliS (rest := []) C.1 hf (smT_isIn l N _ _ _) cqT_T_isIn ⟨rfl, rfl⟩ ⟨Nat.le_of_ble_eq_true rfl, Nat.le_of_ble_eq_true rfl⟩ rfl hl.1 rfl (Nat.le_of_ble_eq_true rfl) (t_room hI) dX0_choice_24 (fun v4 hf => ?_)
      refine b_ifeq (tgt := 40) hx hb hf dX0_choice_27 (by decide) (fun hf => ?_) (fun hf => ?_)
      · refine lv_ldcw hx hb hown (hts _ q1097) dX0_choice_40 ?_
        exact t_iret C hI hf dX0_choice_43
      · refine lv_iload hx hb dX0_choice_30 (lv_at hl 4 rfl) ?_
        refine lv_iconst (v := 0) hx hb dX0_choice_32 (by decide) ?_
        refine lv_iconst (v := 1) hx hb dX0_choice_33 (by decide) ?_
        refine g_calliS (rest := []) C.1 hf (smT_isIn l N _ _ _) cqT_T_isIn ⟨rfl, rfl⟩ ⟨Nat.le_of_ble_eq_true rfl, Nat.le_of_ble_eq_true rfl⟩ rfl hl.1 rfl (Nat.le_of_ble_eq_true rfl) (t_room hI) dX0_choice_34 (fun v5 hf => ?_)
        refine b_ifne (tgt := 44) hx hb hf dX0_choice_37 (by decide) (fun hf => ?_) (fun hf => ?_)
        · refine lv_aload_n hx hb dX0_choice_44 rfl (lv_at hl 0 rfl) ?_
          refine tgX0_152 C hI dX0_choice_45 ?_
          refine tgX0_408 C hI (tI.l3 hI (by decide)) dX0_choice_48 ?_
          refine lv_iload_n hx hb dX0_choice_51 rfl (lv_at hl 1 rfl) ?_
          refine t_cald C hI (tI.l3 hI (by decide)) (by decide) hf dX0_choice_52 (fun v6 hf => ?_)
          refine lv_istore (lv' := [(5, .int v6), (0, .ref (wa w 37)), (1, .int l1), (2, .int l2), (3, .int l3), (4, .int l4)]) hx hb dX0_choice_53 hl (by decide) rfl (fun ls hl => ?_)
          refine lv_iload hx hb dX0_choice_55 (lv_at hl 0 rfl) ?_
          refine lv_iload_n hx hb dX0_choice_57 rfl (lv_at hl 3 rfl) ?_
          refine lv_isub hx hb dX0_choice_58 ?_
          refine lv_istore (lv' := [(6, .int (v6 - l2)), (5, .int v6), (0, .ref (wa w 37)), (1, .int l1), (2, .int l2), (3, .int l3), (4, .int l4)]) hx hb dX0_choice_59 hl (by decide) rfl (fun ls hl => ?_)
          refine lv_iload_n hx hb dX0_choice_61 rfl (lv_at hl 5 rfl) ?_
          refine lv_iload hx hb dX0_choice_62 (lv_at hl 1 rfl) ?_
          refine lv_imul hx hb dX0_choice_64 ?_
          refine lv_sipush (v := 1000) hx hb dX0_choice_65 (by decide) ?_
          refine lv_iload_n hx hb dX0_choice_68 rfl (lv_at hl 5 rfl) ?_
          refine lv_isub hx hb dX0_choice_69 ?_
          refine lv_iload hx hb dX0_choice_70 (lv_at hl 0 rfl) ?_
          refine lv_iconst (v := 0) hx hb dX0_choice_72 (by decide) ?_
          refine g_calliS (rest := [.int (1000 - l3), .int (l3 * v6)]) C.1 hf (smJm_max l N _ _) cqT_Jm_max ⟨rfl, rfl⟩ ⟨Nat.le_of_ble_eq_true rfl, Nat.le_of_ble_eq_true rfl⟩ rfl hl.1 rfl (Nat.le_of_ble_eq_true rfl) (t_room hI) dX0_choice_73 (fun v7 hf => ?_)
          refine lv_imul hx hb dX0_choice_76 ?_
          refine lv_iadd hx hb dX0_choice_77 ?_
          refine lv_sipush (v := 1000) hx hb dX0_choice_78 (by decide) ?_
          refine g_calliS (rest := []) C.1 hf (smJm_floorDiv l N _ _) cqT_Jm_floorDiv ⟨rfl, rfl⟩ ⟨Nat.le_of_ble_eq_true rfl, Nat.le_of_ble_eq_true rfl⟩ rfl hl.1 rfl (Nat.le_of_ble_eq_true rfl) (t_room hI) dX0_choice_81 (fun v8 hf => ?_)
          refine lv_aload_n hx hb dX0_choice_84 rfl (lv_at hl 2 rfl) ?_
          refine tgX0_152 C hI dX0_choice_85 ?_
          refine lv_iload_n hx hb dX0_choice_88 rfl (lv_at hl 3 rfl) ?_
          refine t_cVi (rest := [.int v8]) C hI hf (tmC_costOf l N B (tI.l3 hI (by decide)) _ _) (rv_chain C hI (tI.l3 hI (by decide))) cqX0_C_costOf ⟨Nat.le_of_ble_eq_true rfl, Nat.le_of_ble_eq_true rfl⟩ rfl hl.1 rfl (Nat.le_of_ble_eq_true rfl) dX0_choice_89 (fun v10 x9 H locs hI hf => ?_)
          refine lv_isub hx hb dX0_choice_92 ?_
          refine lv_istore (lv' := [(7, .int (v8 - v10)), (6, .int (v6 - l2)), (5, .int v6), (0, .ref (wa w 37)), (1, .int l1), (2, .int l2), (3, .int l3), (4, .int l4)]) hx hb dX0_choice_93 hl (by decide) rfl (fun ls hl => ?_)
          refine lv_iload hx hb dX0_choice_95 (lv_at hl 1 rfl) ?_
          refine lv_iload hx hb dX0_choice_97 (lv_at hl 0 rfl) ?_
          refine lv_iconst (v := 0) hx hb dX0_choice_99 (by decide) ?_
          refine g_calliS (rest := [.int (v6 - l2)]) C.1 hf (smJm_max l N _ _) cqT_Jm_max ⟨rfl, rfl⟩ ⟨Nat.le_of_ble_eq_true rfl, Nat.le_of_ble_eq_true rfl⟩ rfl hl.1 rfl (Nat.le_of_ble_eq_true rfl) (t_room hI) dX0_choice_100 (fun v11 hf => ?_)
          refine g_calliS (rest := []) C.1 hf (smJm_max l N _ _) cqT_Jm_max ⟨rfl, rfl⟩ ⟨Nat.le_of_ble_eq_true rfl, Nat.le_of_ble_eq_true rfl⟩ rfl hl.1 rfl (Nat.le_of_ble_eq_true rfl) (t_room hI) dX0_choice_103 (fun v12 hf => ?_)
          refine lv_istore (lv' := [(8, .int v12), (7, .int (v8 - v10)), (6, .int (v6 - l2)), (5, .int v6), (0, .ref (wa w 37)), (1, .int l1), (2, .int l2), (3, .int l3), (4, .int l4)]) hx hb dX0_choice_106 hl (by decide) rfl (fun ls hl => ?_)
          refine lv_iload hx hb dX0_choice_108 (lv_at hl 8 rfl) ?_
          refine lv_iconst (v := 1) hx hb dX0_choice_110 (by decide) ?_
          refine b_icne (tgt := 119) hx hb hf dX0_choice_111 (by decide) (fun hf => ?_) (fun hf => ?_)
          · refine lv_iload hx hb dX0_choice_119 (lv_at hl 0 rfl) ?_
            refine lv_iload hx hb dX0_choice_121 (lv_at hl 2 rfl) ?_
            refine b_icne (tgt := 130) hx hb hf dX0_choice_123 (by decide) (fun hf => ?_) (fun hf => ?_)
            · refine lv_iload hx hb dX0_choice_130 (lv_at hl 0 rfl) ?_
              refine lv_iload hx hb dX0_choice_132 (lv_at hl 1 rfl) ?_
              refine b_icne (tgt := 141) hx hb hf dX0_choice_134 (by decide) (fun hf => ?_) (fun hf => ?_)
              · refine lv_iconst (v := 2) hx hb dX0_choice_141 (by decide) ?_
                exact t_iret C hI hf dX0_choice_142
              · refine lv_iconst (v := 1) hx hb dX0_choice_137 (by decide) ?_
                refine lv_goto (tgt := 142) hx hb dX0_choice_138 (by decide) ?_
                exact t_iret C hI hf dX0_choice_142
            · refine lv_iconst (v := 0) hx hb dX0_choice_126 (by decide) ?_
              refine lv_goto (tgt := 142) hx hb dX0_choice_127 (by decide) ?_
              exact t_iret C hI hf dX0_choice_142
          · refine lv_iload hx hb dX0_choice_114 (lv_at hl 0 rfl) ?_
            refine lv_goto (tgt := 142) hx hb dX0_choice_116 (by decide) ?_
            exact t_iret C hI hf dX0_choice_142
        · refine lv_ldcw hx hb hown (hts _ q1097) dX0_choice_40 ?_
          exact t_iret C hI hf dX0_choice_43
/-! TwelveChain.slowest()I -/
abbrev frT_slowest : Nat := 405
abbrev loT_slowest : Nat := 12128
def fT_slowest_b4 (N : Nat) (B : Nat × Nat) : Nat → TS → Int32 → Int32 → Option (Int32 × TS)
  | 0, _, _, _ => none
  | n + 1, x, l1, l2 =>
  if (tS x 21) ≤ l2 then
    some (l1, x)
  else
    b2 (fC_isMoved N B x 0 l2) fun v2 x1 =>
    if v2 = 0 then
      if l1 = (-1) then
        fT_slowest_b4 N B n x1 l2 (l2 + 1)
      else
        b2 (fC_readyOf N B x1 0 l2) fun v4 x3 =>
        b2 (fC_readyOf N B x3 0 l1) fun v6 x5 =>
        if v6 ≤ v4 then
          fT_slowest_b4 N B n x5 l1 (l2 + 1)
        else
          fT_slowest_b4 N B n x5 l2 (l2 + 1)
    else
      fT_slowest_b4 N B n x1 l1 (l2 + 1)
theorem w_fT_slowest_b4 {N : Nat} {B : Nat × Nat} {r : Int32} {xr : TS} (C : tCx w A p s m args meth c cX0_slowest 3 RX0 (some .int)) : ∀ (n : Nat) (x : TS) (l1 : Int32) (l2 : Int32) (H : Heap) (locs : List Loc) (ls : Array Slot), tI w A B x s.heap H locs → lv_has ls 3 [(0, .ref (wa w 37)), (1, .int l1), (2, .int l2)] → fT_slowest_b4 N B n x l1 l2 = some (r, xr) → W p l e (tRm B frT_slowest loT_slowest s.heap.size (SL s.heap)) s m args below meth c H locs (tZ x - s.heap.size) (tY x - SL s.heap) (MQ below (tQ w A B (some (.int r)) xr) args s (B.1 - s.heap.size) (B.2 - SL s.heap) A) (F0 m 4 ls []) := by
  have hx := C.1.1
  have hb := C.1.2.1
  have hown := C.1.2.2.2.1
  have hts := C.1.2.2.2.2.1
  have hE := C.2.2
  intro n
  induction n with
  | zero => intro x l1 l2 H locs ls hI hl hf; rw [fT_slowest_b4] at hf; cases hf
  | succ n ih =>
  intro x l1 l2 H locs ls hI hl hf
  rw [fT_slowest_b4] at hf
  refine lv_iload_n hx hb dX0_slowest_4 rfl (lv_at hl 2 rfl) ?_
  refine lv_aload_n hx hb dX0_slowest_5 rfl (lv_at hl 0 rfl) ?_
  refine tgX0_346 C hI dX0_slowest_6 ?_
  refine b_icge (tgt := 55) hx hb hf dX0_slowest_9 (by decide) (fun hf => ?_) (fun hf => ?_)
  · refine lv_iload_n hx hb dX0_slowest_55 rfl (lv_at hl 1 rfl) ?_
    exact t_iret C hI hf dX0_slowest_56
  · refine lv_aload_n hx hb dX0_slowest_12 rfl (lv_at hl 0 rfl) ?_
    refine tgX0_152 C hI dX0_slowest_13 ?_
    refine lv_iload_n hx hb dX0_slowest_16 rfl (lv_at hl 2 rfl) ?_
    refine t_cVi (rest := []) C hI hf (tmC_isMoved l N B (tI.l3 hI (by decide)) _ _) (rv_chain C hI (tI.l3 hI (by decide))) cqX0_C_isMoved ⟨Nat.le_of_ble_eq_true rfl, Nat.le_of_ble_eq_true rfl⟩ rfl hl.1 rfl (Nat.le_of_ble_eq_true rfl) dX0_slowest_17 (fun v2 x1 H locs hI hf => ?_)
    refine b_ifne (tgt := 49) hx hb hf dX0_slowest_20 (by decide) (fun hf => ?_) (fun hf => ?_)
    · refine lv_iinc (v := l2 + 1) (lv' := [(2, .int (l2 + 1)), (0, .ref (wa w 37)), (1, .int l1)]) hx hb dX0_slowest_49 hl (k := 2) rfl rfl (by decide) rfl (fun ls hl => ?_)
      refine lv_goto (tgt := 4) hx hb dX0_slowest_52 (by decide) ?_
      exact ih x1 l1 (l2 + 1) _ _ _ hI (lv_sub hl [1, 2, 0] rfl) hf
    · refine lv_iload_n hx hb dX0_slowest_23 rfl (lv_at hl 1 rfl) ?_
      refine lv_iconst (v := (-1)) hx hb dX0_slowest_24 (by decide) ?_
      refine b_iceq (tgt := 47) hx hb hf dX0_slowest_25 (by decide) (fun hf => ?_) (fun hf => ?_)
      · refine lv_iload_n hx hb dX0_slowest_47 rfl (lv_at hl 2 rfl) ?_
        refine lv_istore_n (lv' := [(1, .int l2), (0, .ref (wa w 37)), (2, .int l2)]) hx hb dX0_slowest_48 rfl hl (by decide) rfl (fun ls hl => ?_)
        refine lv_iinc (v := l2 + 1) (lv' := [(2, .int (l2 + 1)), (1, .int l2), (0, .ref (wa w 37))]) hx hb dX0_slowest_49 hl (k := 2) rfl rfl (by decide) rfl (fun ls hl => ?_)
        refine lv_goto (tgt := 4) hx hb dX0_slowest_52 (by decide) ?_
        exact ih x1 l2 (l2 + 1) _ _ _ hI (lv_sub hl [2, 1, 0] rfl) hf
      · refine lv_aload_n hx hb dX0_slowest_28 rfl (lv_at hl 0 rfl) ?_
        refine tgX0_152 C hI dX0_slowest_29 ?_
        refine lv_iload_n hx hb dX0_slowest_32 rfl (lv_at hl 2 rfl) ?_
        refine t_cVi (rest := []) C hI hf (tmC_readyOf l N B (tI.l3 hI (by decide)) _ _) (rv_chain C hI (tI.l3 hI (by decide))) cqX0_C_readyOf ⟨Nat.le_of_ble_eq_true rfl, Nat.le_of_ble_eq_true rfl⟩ rfl hl.1 rfl (Nat.le_of_ble_eq_true rfl) dX0_slowest_33 (fun v4 x3 H locs hI hf => ?_)
        refine lv_aload_n hx hb dX0_slowest_36 rfl (lv_at hl 0 rfl) ?_
        refine tgX0_152 C hI dX0_slowest_37 ?_
        refine lv_iload_n hx hb dX0_slowest_40 rfl (lv_at hl 1 rfl) ?_
        refine t_cVi (rest := [.int v4]) C hI hf (tmC_readyOf l N B (tI.l3 hI (by decide)) _ _) (rv_chain C hI (tI.l3 hI (by decide))) cqX0_C_readyOf ⟨Nat.le_of_ble_eq_true rfl, Nat.le_of_ble_eq_true rfl⟩ rfl hl.1 rfl (Nat.le_of_ble_eq_true rfl) dX0_slowest_41 (fun v6 x5 H locs hI hf => ?_)
        refine b_icge (tgt := 49) hx hb hf dX0_slowest_44 (by decide) (fun hf => ?_) (fun hf => ?_)
        · refine lv_iinc (v := l2 + 1) (lv' := [(2, .int (l2 + 1)), (0, .ref (wa w 37)), (1, .int l1)]) hx hb dX0_slowest_49 hl (k := 2) rfl rfl (by decide) rfl (fun ls hl => ?_)
          refine lv_goto (tgt := 4) hx hb dX0_slowest_52 (by decide) ?_
          exact ih x5 l1 (l2 + 1) _ _ _ hI (lv_sub hl [1, 2, 0] rfl) hf
        · refine lv_iload_n hx hb dX0_slowest_47 rfl (lv_at hl 2 rfl) ?_
          refine lv_istore_n (lv' := [(1, .int l2), (0, .ref (wa w 37)), (2, .int l2)]) hx hb dX0_slowest_48 rfl hl (by decide) rfl (fun ls hl => ?_)
          refine lv_iinc (v := l2 + 1) (lv' := [(2, .int (l2 + 1)), (1, .int l2), (0, .ref (wa w 37))]) hx hb dX0_slowest_49 hl (k := 2) rfl rfl (by decide) rfl (fun ls hl => ?_)
          refine lv_goto (tgt := 4) hx hb dX0_slowest_52 (by decide) ?_
          exact ih x5 l2 (l2 + 1) _ _ _ hI (lv_sub hl [2, 1, 0] rfl) hf
def fT_slowest (N : Nat) (B : Nat × Nat) (x : TS) : Option (Int32 × TS) :=
  fT_slowest_b4 N B N x (-1) 0
theorem tmT_slowest (l : Launch) (N : Nat) {w : tO} {A : Nat → Prop} (B : Nat × Nat) : ∀ (x : TS) (r : Int32) (xr : TS), fT_slowest N B x  = some (r, xr) → tMet l yX0_slowest (ws_ yX0_slowest cX0_slowest 3 (some .int)) frT_slowest loT_slowest [.ref (wa w 37)] w A B x (some (.int r)) xr := by
  intro x  r xr hf
  refine t_start (cc := cX0_slowest) (own := RX0) (by decide +kernel) rfl (Nat.le_of_ble_eq_true rfl) rfl ?_
  intro p e s m args below meth c ls H locs C hmn hI hl
  have hx := C.1.1
  have hb := C.1.2.1
  have hown := C.1.2.2.2.1
  have hts := C.1.2.2.2.2.1
  have hE := C.2.2
  rw [fT_slowest] at hf
  refine lv_iconst (v := (-1)) hx hb dX0_slowest_0 (by decide) ?_
  refine lv_istore_n (lv' := [(1, .int (-1)), (0, .ref (wa w 37))]) hx hb dX0_slowest_1 rfl hl (by decide) rfl (fun ls hl => ?_)
  refine lv_iconst (v := 0) hx hb dX0_slowest_2 (by decide) ?_
  refine lv_istore_n (lv' := [(2, .int 0), (1, .int (-1)), (0, .ref (wa w 37))]) hx hb dX0_slowest_3 rfl hl (by decide) rfl (fun ls hl => ?_)
  exact w_fT_slowest_b4 C N x (-1) 0 _ _ _ hI (lv_sub hl [2, 1, 0] rfl) hf
