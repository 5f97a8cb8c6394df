set_option maxRecDepth 100000
variable {p : Program} {l : Launch} {e : Env} {R : Room} {s : State} {m : MethodId} {args : Array Value} {below : List Frame} {meth : Method} {c : Code} {H : Heap} {locs : List Loc} {Q : State → Prop}
variable {w : tO} {A : Nat → Prop}
/-! TwelveChain.lambda$bridges$0(I)Z -/
abbrev frT_lambda_bridges_0 : Nat := 3
abbrev loT_lambda_bridges_0 : Nat := 63
def fT_lambda_bridges_0 (N : Nat) (B : Nat × Nat) (x : TS) (l1 : Int32) : Option (Int32 × TS) :=
  b2 (fC_canBridge N B x 0 l1) fun v2 x1 =>
  some (zb v2, x1)
theorem tmT_lambda_bridges_0 (l : Launch) (N : Nat) {w : tO} {A : Nat → Prop} (B : Nat × Nat) : ∀ (x : TS) (l1 : Int32) (r : Int32) (xr : TS), fT_lambda_bridges_0 N B x l1 = some (r, xr) → tMet l yX0_lambda_bridges_0 (ws_ yX0_lambda_bridges_0 cX0_lambda_bridges_0 2 (some .boolean)) frT_lambda_bridges_0 loT_lambda_bridges_0 [.ref (wa w 37), .int l1] w A B x (some (.int r)) xr := by
  intro x l1 r xr hf
  refine t_start (cc := cX0_lambda_bridges_0) (own := RX0) (by decide +kernel) rfl (Nat.le_of_ble_eq_true rfl) rfl ?_
  intro p e s m args below meth c ls H locs C hmn hI hl
  have hx := C.1.1
  have hb := C.1.2.1
  have hown := C.1.2.2.2.1
  have hts := C.1.2.2.2.2.1
  have hE := C.2.2
  rw [fT_lambda_bridges_0] at hf
  refine lv_aload_n hx hb dX0_lambda_bridges_0_0 rfl (lv_at hl 0 rfl) ?_
  refine tgX0_152 C hI dX0_lambda_bridges_0_1 ?_
  refine lv_iload_n hx hb dX0_lambda_bridges_0_4 rfl (lv_at hl 1 rfl) ?_
  refine t_cVi (rest := []) C hI hf (tmC_canBridge l N B (tI.l3 hI (by decide)) _ _) (rv_chain C hI (tI.l3 hI (by decide))) cqX0_C_canBridge ⟨Nat.le_of_ble_eq_true rfl, Nat.le_of_ble_eq_true rfl⟩ rfl hl.1 rfl (Nat.le_of_ble_eq_true rfl) dX0_lambda_bridges_0_5 (fun v2 x1 H locs hI hf => ?_)
  exact t_zret C hI hf dX0_lambda_bridges_0_8
/-! TwelveChain.gapOf(I)I -/
abbrev frT_gapOf : Nat := 1
abbrev loT_gapOf : Nat := 21
def fT_gapOf (N : Nat) (B : Nat × Nat) (x : TS) (l1 : Int32) : Option (Int32 × TS) :=
  b2 (fC_canPay N B x 0 l1) fun v2 x1 =>
  if v2 = 0 then
    (rd 12 (tC x1 0 0) (l1 + 1)).bind fun v3 =>
    (rd 12 (tC x1 0 1) l1).bind fun v4 =>
    if l1 ≤ 0 then
      some ((v3 - v4) - 0, x1)
    else
      (rd 12 (tC x1 0 0) l1).bind fun v5 =>
      some ((v3 - v4) - v5, x1)
  else
    some (0, x1)
theorem tmT_gapOf (l : Launch) (N : Nat) {w : tO} {A : Nat → Prop} (B : Nat × Nat) : ∀ (x : TS) (l1 : Int32) (r : Int32) (xr : TS), fT_gapOf N B x l1 = some (r, xr) → tMet l yX0_gapOf (ws_ yX0_gapOf cX0_gapOf 2 (some .int)) frT_gapOf loT_gapOf [.ref (wa w 37), .int l1] w A B x (some (.int r)) xr := by
  intro x l1 r xr hf
  refine t_start (cc := cX0_gapOf) (own := RX0) (by decide +kernel) rfl (Nat.le_of_ble_eq_true rfl) rfl ?_
  intro p e s m args below meth c ls H locs C hmn hI hl
  have hx := C.1.1
  have hb := C.1.2.1
  have hown := C.1.2.2.2.1
  have hts := C.1.2.2.2.2.1
  have hE := C.2.2
  rw [fT_gapOf] at hf
  refine lv_aload_n hx hb dX0_gapOf_0 rfl (lv_at hl 0 rfl) ?_
  refine tgX0_152 C hI dX0_gapOf_1 ?_
  refine lv_iload_n hx hb dX0_gapOf_4 rfl (lv_at hl 1 rfl) ?_
  refine t_cVi (rest := []) C hI hf (tmC_canPay l N B (tI.l3 hI (by decide)) _ _) (rv_chain C hI (tI.l3 hI (by decide))) cqX0_C_canPay ⟨Nat.le_of_ble_eq_true rfl, Nat.le_of_ble_eq_true rfl⟩ rfl hl.1 rfl (Nat.le_of_ble_eq_true rfl) dX0_gapOf_5 (fun v2 x1 H locs hI hf => ?_)
  refine b_ifeq (tgt := 15) hx hb hf dX0_gapOf_8 (by decide) (fun hf => ?_) (fun hf => ?_)
  · refine lv_aload_n hx hb dX0_gapOf_15 rfl (lv_at hl 0 rfl) ?_
    refine tgX0_152 C hI dX0_gapOf_16 ?_
    refine tgX0_404 C hI (tI.l3 hI (by decide)) dX0_gapOf_19 ?_
    refine lv_iload_n hx hb dX0_gapOf_22 rfl (lv_at hl 1 rfl) ?_
    refine lv_iconst (v := 1) hx hb dX0_gapOf_23 (by decide) ?_
    refine lv_iadd hx hb dX0_gapOf_24 ?_
    refine t_cald C hI (tI.l3 hI (by decide)) (by decide) hf dX0_gapOf_25 (fun v3 hf => ?_)
    refine lv_aload_n hx hb dX0_gapOf_26 rfl (lv_at hl 0 rfl) ?_
    refine tgX0_152 C hI dX0_gapOf_27 ?_
    refine tgX0_406 C hI (tI.l3 hI (by decide)) dX0_gapOf_30 ?_
    refine lv_iload_n hx hb dX0_gapOf_33 rfl (lv_at hl 1 rfl) ?_
    refine t_cald C hI (tI.l3 hI (by decide)) (by decide) hf dX0_gapOf_34 (fun v4 hf => ?_)
    refine lv_isub hx hb dX0_gapOf_35 ?_
    refine lv_iload_n hx hb dX0_gapOf_36 rfl (lv_at hl 1 rfl) ?_
    refine b_ifle (tgt := 52) hx hb hf dX0_gapOf_37 (by decide) (fun hf => ?_) (fun hf => ?_)
    · refine lv_iconst (v := 0) hx hb dX0_gapOf_52 (by decide) ?_
      refine lv_isub hx hb dX0_gapOf_53 ?_
      exact t_iret C hI hf dX0_gapOf_54
    · refine lv_aload_n hx hb dX0_gapOf_40 rfl (lv_at hl 0 rfl) ?_
      refine tgX0_152 C hI dX0_gapOf_41 ?_
      refine tgX0_404 C hI (tI.l3 hI (by decide)) dX0_gapOf_44 ?_
      refine lv_iload_n hx hb dX0_gapOf_47 rfl (lv_at hl 1 rfl) ?_
      refine t_cald C hI (tI.l3 hI (by decide)) (by decide) hf dX0_gapOf_48 (fun v5 hf => ?_)
      refine lv_goto (tgt := 53) hx hb dX0_gapOf_49 (by decide) ?_
      refine lv_isub hx hb dX0_gapOf_53 ?_
      exact t_iret C hI hf dX0_gapOf_54
  · refine lv_iconst (v := 0) hx hb dX0_gapOf_11 (by decide) ?_
    refine lv_goto (tgt := 54) hx hb dX0_gapOf_12 (by decide) ?_
    exact t_iret C hI hf dX0_gapOf_54
/-! TwelveChain.gap(I)I -/
abbrev frT_gap : Nat := 2
abbrev loT_gap : Nat := 43
def fT_gap (N : Nat) (B : Nat × Nat) (x : TS) (l1 : Int32) : Option (Int32 × TS) :=
  b2 (fT_isLink N B x l1) fun v2 x1 =>
  if v2 = 0 then
    some ((-1), x1)
  else
    b2 (fT_gapOf N B x1 l1) fun v4 x3 =>
    some (v4, x3)
theorem tmT_gap (l : Launch) (N : Nat) {w : tO} {A : Nat → Prop} (B : Nat × Nat) : ∀ (x : TS) (l1 : Int32) (r : Int32) (xr : TS), fT_gap N B x l1 = some (r, xr) → tMet l yX0_gap (ws_ yX0_gap cX0_gap 2 (some .int)) frT_gap loT_gap [.ref (wa w 37), .int l1] w A B x (some (.int r)) xr := by
  intro x l1 r xr hf
  refine t_start (cc := cX0_gap) (own := RX0) (by decide +kernel) rfl (Nat.le_of_ble_eq_true rfl) rfl ?_
  intro p e s m args below meth c ls H locs C hmn hI hl
  have hx := C.1.1
  have hb := C.1.2.1
  have hown := C.1.2.2.2.1
  have hts := C.1.2.2.2.2.1
  have hE := C.2.2
  rw [fT_gap] at hf
  refine lv_aload_n hx hb dX0_gap_0 rfl (lv_at hl 0 rfl) ?_
  refine lv_iload_n hx hb dX0_gap_1 rfl (lv_at hl 1 rfl) ?_
  refine t_cVi (rest := []) C hI hf (tmT_isLink l N B _ _) (rv_main C hI) cqX0_T_isLink ⟨Nat.le_of_ble_eq_true rfl, Nat.le_of_ble_eq_true rfl⟩ rfl hl.1 rfl (Nat.le_of_ble_eq_true rfl) dX0_gap_2 (fun v2 x1 H locs hI hf => ?_)
  refine b_ifeq (tgt := 16) hx hb hf dX0_gap_5 (by decide) (fun hf => ?_) (fun hf => ?_)
  · refine lv_iconst (v := (-1)) hx hb dX0_gap_16 (by decide) ?_
    exact t_iret C hI hf dX0_gap_17
  · refine lv_aload_n hx hb dX0_gap_8 rfl (lv_at hl 0 rfl) ?_
    refine lv_iload_n hx hb dX0_gap_9 rfl (lv_at hl 1 rfl) ?_
    refine t_cVi (rest := []) C hI hf (tmT_gapOf l N B _ _) (rv_main C hI) cqX0_T_gapOf ⟨Nat.le_of_ble_eq_true rfl, Nat.le_of_ble_eq_true rfl⟩ rfl hl.1 rfl (Nat.le_of_ble_eq_true rfl) dX0_gap_10 (fun v4 x3 H locs hI hf => ?_)
    refine lv_goto (tgt := 17) hx hb dX0_gap_13 (by decide) ?_
    exact t_iret C hI hf dX0_gap_17
/-! TwelveChain.isSound(I)Z -/
abbrev frT_isSound : Nat := 2
abbrev loT_isSound : Nat := 42
def fT_isSound (N : Nat) (B : Nat × Nat) (x : TS) (l1 : Int32) : Option (Int32 × TS) :=
  b2 (fC_isThere N B x 0 l1) fun v2 x1 =>
  if v2 = 0 then
    some (0, x1)
  else
    b2 (fC_canPay N B x1 0 l1) fun v4 x3 =>
    if v4 = 0 then
      some (0, x3)
    else
      some (1, x3)
theorem tmT_isSound (l : Launch) (N : Nat) {w : tO} {A : Nat → Prop} (B : Nat × Nat) : ∀ (x : TS) (l1 : Int32) (r : Int32) (xr : TS), fT_isSound N B x l1 = some (r, xr) → tMet l yX0_isSound (ws_ yX0_isSound cX0_isSound 2 (some .boolean)) frT_isSound loT_isSound [.ref (wa w 37), .int l1] w A B x (some (.int r)) xr := by
  intro x l1 r xr hf
  refine t_start (cc := cX0_isSound) (own := RX0) (by decide +kernel) rfl (Nat.le_of_ble_eq_true rfl) rfl ?_
  intro p e s m args below meth c ls H locs C hmn hI hl
  have hx := C.1.1
  have hb := C.1.2.1
  have hown := C.1.2.2.2.1
  have hts := C.1.2.2.2.2.1
  have hE := C.2.2
  rw [fT_isSound] at hf
  refine lv_aload_n hx hb dX0_isSound_0 rfl (lv_at hl 0 rfl) ?_
  refine tgX0_152 C hI dX0_isSound_1 ?_
  refine lv_iload_n hx hb dX0_isSound_4 rfl (lv_at hl 1 rfl) ?_
  refine t_cVi (rest := []) C hI hf (tmC_isThere l N B (tI.l3 hI (by decide)) _ _) (rv_chain C hI (tI.l3 hI (by decide))) cqX0_C_isThere ⟨Nat.le_of_ble_eq_true rfl, Nat.le_of_ble_eq_true rfl⟩ rfl hl.1 rfl (Nat.le_of_ble_eq_true rfl) dX0_isSound_5 (fun v2 x1 H locs hI hf => ?_)
  refine b_ifeq (tgt := 26) hx hb hf dX0_isSound_8 (by decide) (fun hf => ?_) (fun hf => ?_)
  · refine lv_iconst (v := 0) hx hb dX0_isSound_26 (by decide) ?_
    exact t_zretc C hI zb_0 hf dX0_isSound_27
  · refine lv_aload_n hx hb dX0_isSound_11 rfl (lv_at hl 0 rfl) ?_
    refine tgX0_152 C hI dX0_isSound_12 ?_
    refine lv_iload_n hx hb dX0_isSound_15 rfl (lv_at hl 1 rfl) ?_
    refine t_cVi (rest := []) C hI hf (tmC_canPay l N B (tI.l3 hI (by decide)) _ _) (rv_chain C hI (tI.l3 hI (by decide))) cqX0_C_canPay ⟨Nat.le_of_ble_eq_true rfl, Nat.le_of_ble_eq_true rfl⟩ rfl hl.1 rfl (Nat.le_of_ble_eq_true rfl) dX0_isSound_16 (fun v4 x3 H locs hI hf => ?_)
    refine b_ifeq (tgt := 26) hx hb hf dX0_isSound_19 (by decide) (fun hf => ?_) (fun hf => ?_)
    · refine lv_iconst (v := 0) hx hb dX0_isSound_26 (by decide) ?_
      exact t_zretc C hI zb_0 hf dX0_isSound_27
    · refine lv_iconst (v := 1) hx hb dX0_isSound_22 (by decide) ?_
      refine lv_goto (tgt := 27) hx hb dX0_isSound_23 (by decide) ?_
      exact t_zretc C hI zb_1 hf dX0_isSound_27
/-! TwelveChain.runs(I)I -/
abbrev frT_runs : Nat := 3
abbrev loT_runs : Nat := 63
def fT_runs_b24 (N : Nat) (B : Nat × Nat) : Nat → TS → Int32 → Int32 → Int32 → Int32 → Int32 → Int32 → Option (Int32 × TS)
  | 0, _, _, _, _, _, _, _ => none
  | n + 1, x, l1, l2, l3, l4, l5, l6 =>
  if (tS x 21) ≤ l6 then
    if l1 = 0 then
      some (l2, x)
    else
      if l1 = 1 then
        some (l3, x)
      else
        some (l4, x)
  else
    b2 (fT_isSound N B x l6) fun v2 x1 =>
    lt (if v2 = 0 then 0 else l5 + 1 : Int32) fun v3 =>
    if v3 = 0 then
      fT_runs_b24 N B n x1 l1 l2 l3 l4 v3 (l6 + 1)
    else
      lt (if v3 ≤ l2 then l3 else (l6 - v3) + 1 : Int32) fun v4 =>
      (fJm_max N l2 v3).bind fun v5 =>
      if l4 = (-1) then
        fT_runs_b24 N B n x1 l1 v5 v4 l6 v3 (l6 + 1)
      else
        (rd 12 (tC x1 0 1) l6).bind fun v6 =>
        (rd 12 (tC x1 0 1) l4).bind fun v7 =>
        if v7 ≤ v6 then
          fT_runs_b24 N B n x1 l1 v5 v4 l4 v3 (l6 + 1)
        else
          fT_runs_b24 N B n x1 l1 v5 v4 l6 v3 (l6 + 1)
theorem w_fT_runs_b24 {N : Nat} {B : Nat × Nat} {r : Int32} {xr : TS} (C : tCx w A p s m args meth c cX0_runs 7 RX0 (some .int)) : ∀ (n : Nat) (x : TS) (l1 : Int32) (l2 : Int32) (l3 : Int32) (l4 : Int32) (l5 : Int32) (l6 : Int32) (H : Heap) (locs : List Loc) (ls : Array Slot), tI w A B x s.heap H locs → lv_has ls 7 [(0, .ref (wa w 37)), (1, .int l1), (2, .int l2), (3, .int l3), (4, .int l4), (5, .int l5), (6, .int l6)] → fT_runs_b24 N B n x l1 l2 l3 l4 l5 l6 = some (r, xr) → W p l e (tRm B frT_runs loT_runs s.heap.size (SL s.heap)) s m args below meth c H locs (tZ x - s.heap.size) (tY x - SL s.heap) (MQ below (tQ w A B (some (.int r)) xr) args s (B.1 - s.heap.size) (B.2 - SL s.heap) A) (F0 m 24 ls []) := by
  have hx := C.1.1
  have hb := C.1.2.1
  have hown := C.1.2.2.2.1
  have hts := C.1.2.2.2.2.1
  have hE := C.2.2
  intro n
  induction n with
  | zero => intro x l1 l2 l3 l4 l5 l6 H locs ls hI hl hf; rw [fT_runs_b24] at hf; cases hf
  | succ n ih =>
  intro x l1 l2 l3 l4 l5 l6 H locs ls hI hl hf
  rw [fT_runs_b24] at hf
  refine lv_iload hx hb dX0_runs_24 (lv_at hl 6 rfl) ?_
  refine lv_aload_n hx hb dX0_runs_26 rfl (lv_at hl 0 rfl) ?_
  refine tgX0_346 C hI dX0_runs_27 ?_
  refine b_icge (tgt := 129) hx hb hf dX0_runs_30 (by decide) (fun hf => ?_) (fun hf => ?_)
  · refine lv_iload_n hx hb dX0_runs_129 rfl (lv_at hl 1 rfl) ?_
    refine b_ifne (tgt := 137) hx hb hf dX0_runs_130 (by decide) (fun hf => ?_) (fun hf => ?_)
    · refine lv_iload_n hx hb dX0_runs_137 rfl (lv_at hl 1 rfl) ?_
      refine lv_iconst (v := 1) hx hb dX0_runs_138 (by decide) ?_
      refine b_icne (tgt := 146) hx hb hf dX0_runs_139 (by decide) (fun hf => ?_) (fun hf => ?_)
      · refine lv_iload hx hb dX0_runs_146 (lv_at hl 4 rfl) ?_
        exact t_iret C hI hf dX0_runs_148
      · refine lv_iload_n hx hb dX0_runs_142 rfl (lv_at hl 3 rfl) ?_
        refine lv_goto (tgt := 148) hx hb dX0_runs_143 (by decide) ?_
        exact t_iret C hI hf dX0_runs_148
    · refine lv_iload_n hx hb dX0_runs_133 rfl (lv_at hl 2 rfl) ?_
      refine lv_goto (tgt := 148) hx hb dX0_runs_134 (by decide) ?_
      exact t_iret C hI hf dX0_runs_148
  · refine lv_aload_n hx hb dX0_runs_33 rfl (lv_at hl 0 rfl) ?_
    refine lv_iload hx hb dX0_runs_34 (lv_at hl 6 rfl) ?_
    refine t_cVi (rest := []) C hI hf (tmT_isSound l N B _ _) (rv_main C hI) cqX0_T_isSound ⟨Nat.le_of_ble_eq_true rfl, Nat.le_of_ble_eq_true rfl⟩ rfl hl.1 rfl (Nat.le_of_ble_eq_true rfl) dX0_runs_36 (fun v2 x1 H locs hI hf => ?_)
    suffices hJ : ∀ v3 : Int32, (v3 = (if v2 = 0 then 0 else l5 + 1 : Int32)) → W p l e (tRm B frT_runs loT_runs s.heap.size (SL s.heap)) s m args below meth c H locs (tZ x1 - s.heap.size) (tY x1 - SL s.heap) (MQ below (tQ w A B (some (.int r)) xr) args s (B.1 - s.heap.size) (B.2 - SL s.heap) A) (F0 m 50 ls [.int v3]) by
      refine lv_if_eq (tgt := 49) hx hb dX0_runs_39 (by decide) (fun hc => ?_) (fun hc => ?_)
      · refine lv_iconst (v := 0) hx hb dX0_runs_49 (by decide) ?_
        exact hJ _ (if_pos hc).symm
      · refine lv_iload hx hb dX0_runs_42 (lv_at hl 5 rfl) ?_
        refine lv_iconst (v := 1) hx hb dX0_runs_44 (by decide) ?_
        refine lv_iadd hx hb dX0_runs_45 ?_
        refine lv_goto (tgt := 50) hx hb dX0_runs_46 (by decide) ?_
        exact hJ _ (if_neg hc).symm
    intro v3 hv
    have hf := lt_of hv hf
    refine lv_istore (lv' := [(5, .int v3), (0, .ref (wa w 37)), (1, .int l1), (2, .int l2), (3, .int l3), (4, .int l4), (6, .int l6)]) hx hb dX0_runs_50 hl (by decide) rfl (fun ls hl => ?_)
    refine lv_iload hx hb dX0_runs_52 (lv_at hl 0 rfl) ?_
    refine b_ifne (tgt := 60) hx hb hf dX0_runs_54 (by decide) (fun hf => ?_) (fun hf => ?_)
    · refine lv_iload hx hb dX0_runs_60 (lv_at hl 0 rfl) ?_
      refine lv_iload_n hx hb dX0_runs_62 rfl (lv_at hl 3 rfl) ?_
      suffices hJ : ∀ v4 : Int32, (v4 = (if v3 ≤ l2 then l3 else (l6 - v3) + 1 : Int32)) → W p l e (tRm B frT_runs loT_runs s.heap.size (SL s.heap)) s m args below meth c H locs (tZ x1 - s.heap.size) (tY x1 - SL s.heap) (MQ below (tQ w A B (some (.int r)) xr) args s (B.1 - s.heap.size) (B.2 - SL s.heap) A) (F0 m 77 ls [.int v4]) by
        refine lv_icmp_le (tgt := 76) hx hb dX0_runs_63 (by decide) (fun hc => ?_) (fun hc => ?_)
        · refine lv_iload_n hx hb dX0_runs_76 rfl (lv_at hl 4 rfl) ?_
          exact hJ _ (if_pos hc).symm
        · refine lv_iload hx hb dX0_runs_66 (lv_at hl 6 rfl) ?_
          refine lv_iload hx hb dX0_runs_68 (lv_at hl 0 rfl) ?_
          refine lv_isub hx hb dX0_runs_70 ?_
          refine lv_iconst (v := 1) hx hb dX0_runs_71 (by decide) ?_
          refine lv_iadd hx hb dX0_runs_72 ?_
          refine lv_goto (tgt := 77) hx hb dX0_runs_73 (by decide) ?_
          exact hJ _ (if_neg hc).symm
      intro v4 hv
      have hf := lt_of hv hf
      refine lv_istore_n (lv' := [(3, .int v4), (5, .int v3), (0, .ref (wa w 37)), (1, .int l1), (2, .int l2), (4, .int l4), (6, .int l6)]) hx hb dX0_runs_77 rfl hl (by decide) rfl (fun ls hl => ?_)
      refine lv_iload_n hx hb dX0_runs_78 rfl (lv_at hl 4 rfl) ?_
      refine lv_iload hx hb dX0_runs_79 (lv_at hl 1 rfl) ?_
      refine g_calliS (rest := []) C.1 hf (smJm_max l N _ _) cqT_Jm_max ⟨rfl, rfl⟩ ⟨Nat.le_of_ble_eq_true rfl, Nat.le_of_ble_eq_true rfl⟩ rfl hl.1 rfl (Nat.le_of_ble_eq_true rfl) (t_room hI) dX0_runs_81 (fun v5 hf => ?_)
      refine lv_istore_n (lv' := [(2, .int v5), (3, .int v4), (5, .int v3), (0, .ref (wa w 37)), (1, .int l1), (4, .int l4), (6, .int l6)]) hx hb dX0_runs_84 rfl hl (by decide) rfl (fun ls hl => ?_)
      refine lv_iload hx hb dX0_runs_85 (lv_at hl 5 rfl) ?_
      refine lv_iconst (v := (-1)) hx hb dX0_runs_87 (by decide) ?_
      refine b_iceq (tgt := 114) hx hb hf dX0_runs_88 (by decide) (fun hf => ?_) (fun hf => ?_)
      · refine lv_iload hx hb dX0_runs_114 (lv_at hl 6 rfl) ?_
        refine lv_goto (tgt := 121) hx hb dX0_runs_116 (by decide) ?_
        refine lv_istore (lv' := [(4, .int l6), (2, .int v5), (3, .int v4), (5, .int v3), (0, .ref (wa w 37)), (1, .int l1), (6, .int l6)]) hx hb dX0_runs_121 hl (by decide) rfl (fun ls hl => ?_)
        refine lv_iinc (v := l6 + 1) (lv' := [(6, .int (l6 + 1)), (4, .int l6), (2, .int v5), (3, .int v4), (5, .int v3), (0, .ref (wa w 37)), (1, .int l1)]) hx hb dX0_runs_123 hl (k := 6) rfl rfl (by decide) rfl (fun ls hl => ?_)
        refine lv_goto (tgt := 24) hx hb dX0_runs_126 (by decide) ?_
        exact ih x1 l1 v5 v4 l6 v3 (l6 + 1) _ _ _ hI (lv_sub hl [5, 6, 2, 3, 1, 4, 0] rfl) hf
      · refine lv_aload_n hx hb dX0_runs_91 rfl (lv_at hl 3 rfl) ?_
        refine tgX0_152 C hI dX0_runs_92 ?_
        refine tgX0_406 C hI (tI.l3 hI (by decide)) dX0_runs_95 ?_
        refine lv_iload hx hb dX0_runs_98 (lv_at hl 6 rfl) ?_
        refine t_cald C hI (tI.l3 hI (by decide)) (by decide) hf dX0_runs_100 (fun v6 hf => ?_)
        refine lv_aload_n hx hb dX0_runs_101 rfl (lv_at hl 3 rfl) ?_
        refine tgX0_152 C hI dX0_runs_102 ?_
        refine tgX0_406 C hI (tI.l3 hI (by decide)) dX0_runs_105 ?_
        refine lv_iload hx hb dX0_runs_108 (lv_at hl 5 rfl) ?_
        refine t_cald C hI (tI.l3 hI (by decide)) (by decide) hf dX0_runs_110 (fun v7 hf => ?_)
        refine b_icge (tgt := 119) hx hb hf dX0_runs_111 (by decide) (fun hf => ?_) (fun hf => ?_)
        · refine lv_iload hx hb dX0_runs_119 (lv_at hl 5 rfl) ?_
          refine lv_istore (lv' := [(4, .int l4), (2, .int v5), (3, .int v4), (5, .int v3), (0, .ref (wa w 37)), (1, .int l1), (6, .int l6)]) hx hb dX0_runs_121 hl (by decide) rfl (fun ls hl => ?_)
          refine lv_iinc (v := l6 + 1) (lv' := [(6, .int (l6 + 1)), (4, .int l4), (2, .int v5), (3, .int v4), (5, .int v3), (0, .ref (wa w 37)), (1, .int l1)]) hx hb dX0_runs_123 hl (k := 6) rfl rfl (by decide) rfl (fun ls hl => ?_)
          refine lv_goto (tgt := 24) hx hb dX0_runs_126 (by decide) ?_
          exact ih x1 l1 v5 v4 l4 v3 (l6 + 1) _ _ _ hI (lv_sub hl [5, 6, 2, 3, 1, 4, 0] rfl) hf
        · refine lv_iload hx hb dX0_runs_114 (lv_at hl 6 rfl) ?_
          refine lv_goto (tgt := 121) hx hb dX0_runs_116 (by decide) ?_
          refine lv_istore (lv' := [(4, .int l6), (2, .int v5), (3, .int v4), (5, .int v3), (0, .ref (wa w 37)), (1, .int l1), (6, .int l6)]) hx hb dX0_runs_121 hl (by decide) rfl (fun ls hl => ?_)
          refine lv_iinc (v := l6 + 1) (lv' := [(6, .int (l6 + 1)), (4, .int l6), (2, .int v5), (3, .int v4), (5, .int v3), (0, .ref (wa w 37)), (1, .int l1)]) hx hb dX0_runs_123 hl (k := 6) rfl rfl (by decide) rfl (fun ls hl => ?_)
          refine lv_goto (tgt := 24) hx hb dX0_runs_126 (by decide) ?_
          exact ih x1 l1 v5 v4 l6 v3 (l6 + 1) _ _ _ hI (lv_sub hl [5, 6, 2, 3, 1, 4, 0] rfl) hf
    · refine lv_goto (tgt := 123) hx hb dX0_runs_57 (by decide) ?_
      refine lv_iinc (v := l6 + 1) (lv' := [(6, .int (l6 + 1)), (5, .int v3), (0, .ref (wa w 37)), (1, .int l1), (2, .int l2), (3, .int l3), (4, .int l4)]) hx hb dX0_runs_123 hl (k := 6) rfl rfl (by decide) rfl (fun ls hl => ?_)
      refine lv_goto (tgt := 24) hx hb dX0_runs_126 (by decide) ?_
      exact ih x1 l1 l2 l3 l4 v3 (l6 + 1) _ _ _ hI (lv_sub hl [2, 3, 4, 5, 6, 1, 0] rfl) hf
def fT_runs (N : Nat) (B : Nat × Nat) (x : TS) (l1 : Int32) : Option (Int32 × TS) :=
  (fT_isIn N l1 0 2).bind fun v1 =>
  if v1 = 0 then
    some ((-1), x)
  else
    fT_runs_b24 N B N x l1 0 (-1) (-1) 0 0
theorem tmT_runs (l : Launch) (N : Nat) {w : tO} {A : Nat → Prop} (B : Nat × Nat) : ∀ (x : TS) (l1 : Int32) (r : Int32) (xr : TS), fT_runs N B x l1 = some (r, xr) → tMet l yX0_runs (ws_ yX0_runs cX0_runs 7 (some .int)) frT_runs loT_runs [.ref (wa w 37), .int l1] w A B x (some (.int r)) xr := by
  intro x l1 r xr hf
  refine t_start (cc := cX0_runs) (own := RX0) (by decide +kernel) rfl (Nat.le_of_ble_eq_true rfl) rfl ?_
  intro p e s m args below meth c ls H locs C hmn hI hl
  have hx := C.1.1
  have hb := C.1.2.1
  have hown := C.1.2.2.2.1
  have hts := C.1.2.2.2.2.1
  have hE := C.2.2
  rw [fT_runs] at hf
  refine lv_iload_n hx hb dX0_runs_0 rfl (lv_at hl 1 rfl) ?_
  refine lv_iconst (v := 0) hx hb dX0_runs_1 (by decide) ?_
  refine lv_iconst (v := 2) hx hb dX0_runs_2 (by decide) ?_
  refine g_calliS (rest := []) C.1 hf (smT_isIn l N _ _ _) cqT_T_isIn ⟨rfl, rfl⟩ ⟨Nat.le_of_ble_eq_true rfl, Nat.le_of_ble_eq_true rfl⟩ rfl hl.1 rfl (Nat.le_of_ble_eq_true rfl) (t_room hI) dX0_runs_3 (fun v1 hf => ?_)
  refine b_ifne (tgt := 11) hx hb hf dX0_runs_6 (by decide) (fun hf => ?_) (fun hf => ?_)
  · refine lv_iconst (v := 0) hx hb dX0_runs_11 (by decide) ?_
    refine lv_istore_n (lv' := [(2, .int 0), (0, .ref (wa w 37)), (1, .int l1)]) hx hb dX0_runs_12 rfl hl (by decide) rfl (fun ls hl => ?_)
    refine lv_iconst (v := (-1)) hx hb dX0_runs_13 (by decide) ?_
    refine lv_istore_n (lv' := [(3, .int (-1)), (2, .int 0), (0, .ref (wa w 37)), (1, .int l1)]) hx hb dX0_runs_14 rfl hl (by decide) rfl (fun ls hl => ?_)
    refine lv_iconst (v := (-1)) hx hb dX0_runs_15 (by decide) ?_
    refine lv_istore (lv' := [(4, .int (-1)), (3, .int (-1)), (2, .int 0), (0, .ref (wa w 37)), (1, .int l1)]) hx hb dX0_runs_16 hl (by decide) rfl (fun ls hl => ?_)
    refine lv_iconst (v := 0) hx hb dX0_runs_18 (by decide) ?_
    refine lv_istore (lv' := [(5, .int 0), (4, .int (-1)), (3, .int (-1)), (2, .int 0), (0, .ref (wa w 37)), (1, .int l1)]) hx hb dX0_runs_19 hl (by decide) rfl (fun ls hl => ?_)
    refine lv_iconst (v := 0) hx hb dX0_runs_21 (by decide) ?_
    refine lv_istore (lv' := [(6, .int 0), (5, .int 0), (4, .int (-1)), (3, .int (-1)), (2, .int 0), (0, .ref (wa w 37)), (1, .int l1)]) hx hb dX0_runs_22 hl (by decide) rfl (fun ls hl => ?_)
    exact w_fT_runs_b24 C N x l1 0 (-1) (-1) 0 0 _ _ _ hI (lv_sub hl [5, 6, 4, 3, 2, 1, 0] rfl) hf
  · refine lv_iconst (v := (-1)) hx hb dX0_runs_9 (by decide) ?_
    exact t_iret C hI hf dX0_runs_10
/-! TwelveChain.canGive(I)I -/
abbrev frT_canGive : Nat := 2
abbrev loT_canGive : Nat := 42
def fT_canGive (N : Nat) (B : Nat × Nat) (x : TS) (l1 : Int32) : Option (Int32 × TS) :=
  b2 (fC_isThere N B x 0 l1) fun v2 x1 =>
  if v2 = 0 then
    some (0, x1)
  else
    (rd 12 (tC x1 0 2) l1).bind fun v3 =>
    (fJm_max N 0 v3).bind fun v4 =>
    some (v4, x1)
theorem tmT_canGive (l : Launch) (N : Nat) {w : tO} {A : Nat → Prop} (B : Nat × Nat) : ∀ (x : TS) (l1 : Int32) (r : Int32) (xr : TS), fT_canGive N B x l1 = some (r, xr) → tMet l yX0_canGive (ws_ yX0_canGive cX0_canGive 2 (some .int)) frT_canGive loT_canGive [.ref (wa w 37), .int l1] w A B x (some (.int r)) xr := by
  intro x l1 r xr hf
  refine t_start (cc := cX0_canGive) (own := RX0) (by decide +kernel) rfl (Nat.le_of_ble_eq_true rfl) rfl ?_
  intro p e s m args below meth c ls H locs C hmn hI hl
  have hx := C.1.1
  have hb := C.1.2.1
  have hown := C.1.2.2.2.1
  have hts := C.1.2.2.2.2.1
  have hE := C.2.2
  rw [fT_canGive] at hf
  refine lv_aload_n hx hb dX0_canGive_0 rfl (lv_at hl 0 rfl) ?_
  refine tgX0_152 C hI dX0_canGive_1 ?_
  refine lv_iload_n hx hb dX0_canGive_4 rfl (lv_at hl 1 rfl) ?_
  refine t_cVi (rest := []) C hI hf (tmC_isThere l N B (tI.l3 hI (by decide)) _ _) (rv_chain C hI (tI.l3 hI (by decide))) cqX0_C_isThere ⟨Nat.le_of_ble_eq_true rfl, Nat.le_of_ble_eq_true rfl⟩ rfl hl.1 rfl (Nat.le_of_ble_eq_true rfl) dX0_canGive_5 (fun v2 x1 H locs hI hf => ?_)
  refine b_ifeq (tgt := 27) hx hb hf dX0_canGive_8 (by decide) (fun hf => ?_) (fun hf => ?_)
  · refine lv_iconst (v := 0) hx hb dX0_canGive_27 (by decide) ?_
    exact t_iret C hI hf dX0_canGive_28
  · refine lv_iconst (v := 0) hx hb dX0_canGive_11 (by decide) ?_
    refine lv_aload_n hx hb dX0_canGive_12 rfl (lv_at hl 0 rfl) ?_
    refine tgX0_152 C hI dX0_canGive_13 ?_
    refine tgX0_408 C hI (tI.l3 hI (by decide)) dX0_canGive_16 ?_
    refine lv_iload_n hx hb dX0_canGive_19 rfl (lv_at hl 1 rfl) ?_
    refine t_cald C hI (tI.l3 hI (by decide)) (by decide) hf dX0_canGive_20 (fun v3 hf => ?_)
    refine g_calliS (rest := []) C.1 hf (smJm_max l N _ _) cqT_Jm_max ⟨rfl, rfl⟩ ⟨Nat.le_of_ble_eq_true rfl, Nat.le_of_ble_eq_true rfl⟩ rfl hl.1 rfl (Nat.le_of_ble_eq_true rfl) (t_room hI) dX0_canGive_21 (fun v4 hf => ?_)
    refine lv_goto (tgt := 28) hx hb dX0_canGive_24 (by decide) ?_
    exact t_iret C hI hf dX0_canGive_28
/-! TwelveChain.givenAt(I)I -/
abbrev frT_givenAt : Nat := 3
abbrev loT_givenAt : Nat := 63
def fT_givenAt_b4 (N : Nat) (B : Nat × Nat) : Nat → TS → Int32 → Int32 → Int32 → Option (Int32 × TS)
  | 0, _, _, _, _ => none
  | n + 1, x, l1, l2, l3 =>
  if (tS x 21) ≤ l3 then
    some (l2, x)
  else
    b2 (fT_canGive N B x l3) fun v2 x1 =>
    (fJm_min N l1 v2).bind fun v3 =>
    fT_givenAt_b4 N B n x1 l1 (l2 + v3) (l3 + 1)
theorem w_fT_givenAt_b4 {N : Nat} {B : Nat × Nat} {r : Int32} {xr : TS} (C : tCx w A p s m args meth c cX0_givenAt 4 RX0 (some .int)) : ∀ (n : Nat) (x : TS) (l1 : Int32) (l2 : Int32) (l3 : Int32) (H : Heap) (locs : List Loc) (ls : Array Slot), tI w A B x s.heap H locs → lv_has ls 4 [(0, .ref (wa w 37)), (1, .int l1), (2, .int l2), (3, .int l3)] → fT_givenAt_b4 N B n x l1 l2 l3 = some (r, xr) → W p l e (tRm B frT_givenAt loT_givenAt s.heap.size (SL s.heap)) s m args below meth c H locs (tZ x - s.heap.size) (tY x - SL s.heap) (MQ below (tQ w A B (some (.int r)) xr) args s (B.1 - s.heap.size) (B.2 - SL s.heap) A) (F0 m 4 ls []) := by
  have hx := C.1.1
  have hb := C.1.2.1
  have hown := C.1.2.2.2.1
  have hts := C.1.2.2.2.2.1
  have hE := C.2.2
  intro n
  induction n with
  | zero => intro x l1 l2 l3 H locs ls hI hl hf; rw [fT_givenAt_b4] at hf; cases hf
  | succ n ih =>
  intro x l1 l2 l3 H locs ls hI hl hf
  rw [fT_givenAt_b4] at hf
  refine lv_iload_n hx hb dX0_givenAt_4 rfl (lv_at hl 3 rfl) ?_
  refine lv_aload_n hx hb dX0_givenAt_5 rfl (lv_at hl 0 rfl) ?_
  refine tgX0_346 C hI dX0_givenAt_6 ?_
  refine b_icge (tgt := 30) hx hb hf dX0_givenAt_9 (by decide) (fun hf => ?_) (fun hf => ?_)
  · refine lv_iload_n hx hb dX0_givenAt_30 rfl (lv_at hl 2 rfl) ?_
    exact t_iret C hI hf dX0_givenAt_31
  · refine lv_iload_n hx hb dX0_givenAt_12 rfl (lv_at hl 2 rfl) ?_
    refine lv_iload_n hx hb dX0_givenAt_13 rfl (lv_at hl 1 rfl) ?_
    refine lv_aload_n hx hb dX0_givenAt_14 rfl (lv_at hl 0 rfl) ?_
    refine lv_iload_n hx hb dX0_givenAt_15 rfl (lv_at hl 3 rfl) ?_
    refine t_cVi (rest := [.int l1, .int l2]) C hI hf (tmT_canGive l N B _ _) (rv_main C hI) cqX0_T_canGive ⟨Nat.le_of_ble_eq_true rfl, Nat.le_of_ble_eq_true rfl⟩ rfl hl.1 rfl (Nat.le_of_ble_eq_true rfl) dX0_givenAt_16 (fun v2 x1 H locs hI hf => ?_)
    refine g_calliS (rest := [.int l2]) C.1 hf (smJm_min l N _ _) cqT_Jm_min ⟨rfl, rfl⟩ ⟨Nat.le_of_ble_eq_true rfl, Nat.le_of_ble_eq_true rfl⟩ rfl hl.1 rfl (Nat.le_of_ble_eq_true rfl) (t_room hI) dX0_givenAt_19 (fun v3 hf => ?_)
    refine lv_iadd hx hb dX0_givenAt_22 ?_
    refine lv_istore_n (lv' := [(2, .int (l2 + v3)), (0, .ref (wa w 37)), (1, .int l1), (3, .int l3)]) hx hb dX0_givenAt_23 rfl hl (by decide) rfl (fun ls hl => ?_)
    refine lv_iinc (v := l3 + 1) (lv' := [(3, .int (l3 + 1)), (2, .int (l2 + v3)), (0, .ref (wa w 37)), (1, .int l1)]) hx hb dX0_givenAt_24 hl (k := 3) rfl rfl (by decide) rfl (fun ls hl => ?_)
    refine lv_goto (tgt := 4) hx hb dX0_givenAt_27 (by decide) ?_
    exact ih x1 l1 (l2 + v3) (l3 + 1) _ _ _ hI (lv_sub hl [2, 3, 1, 0] rfl) hf
def fT_givenAt (N : Nat) (B : Nat × Nat) (x : TS) (l1 : Int32) : Option (Int32 × TS) :=
  fT_givenAt_b4 N B N x l1 0 0
theorem tmT_givenAt (l : Launch) (N : Nat) {w : tO} {A : Nat → Prop} (B : Nat × Nat) : ∀ (x : TS) (l1 : Int32) (r : Int32) (xr : TS), fT_givenAt N B x l1 = some (r, xr) → tMet l yX0_givenAt (ws_ yX0_givenAt cX0_givenAt 4 (some .int)) frT_givenAt loT_givenAt [.ref (wa w 37), .int l1] w A B x (some (.int r)) xr := by
  intro x l1 r xr hf
  refine t_start (cc := cX0_givenAt) (own := RX0) (by decide +kernel) rfl (Nat.le_of_ble_eq_true rfl) rfl ?_
  intro p e s m args below meth c ls H locs C hmn hI hl
  have hx := C.1.1
  have hb := C.1.2.1
  have hown := C.1.2.2.2.1
  have hts := C.1.2.2.2.2.1
  have hE := C.2.2
  rw [fT_givenAt] at hf
  refine lv_iconst (v := 0) hx hb dX0_givenAt_0 (by decide) ?_
  refine lv_istore_n (lv' := [(2, .int 0), (0, .ref (wa w 37)), (1, .int l1)]) hx hb dX0_givenAt_1 rfl hl (by decide) rfl (fun ls hl => ?_)
  refine lv_iconst (v := 0) hx hb dX0_givenAt_2 (by decide) ?_
  refine lv_istore_n (lv' := [(3, .int 0), (2, .int 0), (0, .ref (wa w 37)), (1, .int l1)]) hx hb dX0_givenAt_3 rfl hl (by decide) rfl (fun ls hl => ?_)
  exact w_fT_givenAt_b4 C N x l1 0 0 _ _ _ hI (lv_sub hl [2, 3, 1, 0] rfl) hf
/-! TwelveChain.share(II)I -/
abbrev frT_share : Nat := 4
abbrev loT_share : Nat := 86
def fT_share_b70 (N : Nat) (B : Nat × Nat) : Nat → TS → Int32 → Int32 → Int32 → Int32 → Option (Int32 × TS)
  | 0, _, _, _, _, _ => none
  | n + 1, x, l2, l3, l4, l5 =>
  if l2 ≤ l5 then
    b2 (fT_canGive N B x l2) fun v2 x1 =>
    (fJm_min N l3 v2).bind fun v3 =>
    b2 (fT_canGive N B x1 l2) fun v5 x4 =>
    if v5 ≤ l3 then
      some (v3 + 0, x4)
    else
      if l4 ≤ 0 then
        some (v3 + 0, x4)
      else
        some (v3 + 1, x4)
  else
    b2 (fT_canGive N B x l5) fun v7 x6 =>
    lt (if v7 ≤ l3 then 0 else 1 : Int32) fun v8 =>
    fT_share_b70 N B n x6 l2 l3 (l4 - v8) (l5 + 1)
theorem w_fT_share_b70 {N : Nat} {B : Nat × Nat} {r : Int32} {xr : TS} (C : tCx w A p s m args meth c cX0_share 6 RX0 (some .int)) : ∀ (n : Nat) (x : TS) (l2 : Int32) (l3 : Int32) (l4 : Int32) (l5 : Int32) (H : Heap) (locs : List Loc) (ls : Array Slot), tI w A B x s.heap H locs → lv_has ls 6 [(0, .ref (wa w 37)), (2, .int l2), (3, .int l3), (4, .int l4), (5, .int l5)] → fT_share_b70 N B n x l2 l3 l4 l5 = some (r, xr) → W p l e (tRm B frT_share loT_share s.heap.size (SL s.heap)) s m args below meth c H locs (tZ x - s.heap.size) (tY x - SL s.heap) (MQ below (tQ w A B (some (.int r)) xr) args s (B.1 - s.heap.size) (B.2 - SL s.heap) A) (F0 m 70 ls []) := by
  have hx := C.1.1
  have hb := C.1.2.1
  have hown := C.1.2.2.2.1
  have hts := C.1.2.2.2.2.1
  have hE := C.2.2
  intro n
  induction n with
  | zero => intro x l2 l3 l4 l5 H locs ls hI hl hf; rw [fT_share_b70] at hf; cases hf
  | succ n ih =>
  intro x l2 l3 l4 l5 H locs ls hI hl hf
  rw [fT_share_b70] at hf
  refine lv_iload hx hb dX0_share_70 (lv_at hl 4 rfl) ?_
  refine lv_iload_n hx hb dX0_share_72 rfl (lv_at hl 1 rfl) ?_
  refine b_icge (tgt := 102) hx hb hf dX0_share_73 (by decide) (fun hf => ?_) (fun hf => ?_)
  · refine lv_iload_n hx hb dX0_share_102 rfl (lv_at hl 2 rfl) ?_
    refine lv_aload_n hx hb dX0_share_103 rfl (lv_at hl 0 rfl) ?_
    refine lv_iload_n hx hb dX0_share_104 rfl (lv_at hl 1 rfl) ?_
    refine t_cVi (rest := [.int l3]) C hI hf (tmT_canGive l N B _ _) (rv_main C hI) cqX0_T_canGive ⟨Nat.le_of_ble_eq_true rfl, Nat.le_of_ble_eq_true rfl⟩ rfl hl.1 rfl (Nat.le_of_ble_eq_true rfl) dX0_share_105 (fun v2 x1 H locs hI hf => ?_)
    refine g_calliS (rest := []) C.1 hf (smJm_min l N _ _) cqT_Jm_min ⟨rfl, rfl⟩ ⟨Nat.le_of_ble_eq_true rfl, Nat.le_of_ble_eq_true rfl⟩ rfl hl.1 rfl (Nat.le_of_ble_eq_true rfl) (t_room hI) dX0_share_108 (fun v3 hf => ?_)
    refine lv_aload_n hx hb dX0_share_111 rfl (lv_at hl 0 rfl) ?_
    refine lv_iload_n hx hb dX0_share_112 rfl (lv_at hl 1 rfl) ?_
    refine t_cVi (rest := [.int v3]) C hI hf (tmT_canGive l N B _ _) (rv_main C hI) cqX0_T_canGive ⟨Nat.le_of_ble_eq_true rfl, Nat.le_of_ble_eq_true rfl⟩ rfl hl.1 rfl (Nat.le_of_ble_eq_true rfl) dX0_share_113 (fun v5 x4 H locs hI hf => ?_)
    refine lv_iload_n hx hb dX0_share_116 rfl (lv_at hl 2 rfl) ?_
    refine b_icle (tgt := 129) hx hb hf dX0_share_117 (by decide) (fun hf => ?_) (fun hf => ?_)
    · refine lv_iconst (v := 0) hx hb dX0_share_129 (by decide) ?_
      refine lv_iadd hx hb dX0_share_130 ?_
      exact t_iret C hI hf dX0_share_131
    · refine lv_iload hx hb dX0_share_120 (lv_at hl 3 rfl) ?_
      refine b_ifle (tgt := 129) hx hb hf dX0_share_122 (by decide) (fun hf => ?_) (fun hf => ?_)
      · refine lv_iconst (v := 0) hx hb dX0_share_129 (by decide) ?_
        refine lv_iadd hx hb dX0_share_130 ?_
        exact t_iret C hI hf dX0_share_131
      · refine lv_iconst (v := 1) hx hb dX0_share_125 (by decide) ?_
        refine lv_goto (tgt := 130) hx hb dX0_share_126 (by decide) ?_
        refine lv_iadd hx hb dX0_share_130 ?_
        exact t_iret C hI hf dX0_share_131
  · refine lv_iload hx hb dX0_share_76 (lv_at hl 3 rfl) ?_
    refine lv_aload_n hx hb dX0_share_78 rfl (lv_at hl 0 rfl) ?_
    refine lv_iload hx hb dX0_share_79 (lv_at hl 4 rfl) ?_
    refine t_cVi (rest := [.int l4]) C hI hf (tmT_canGive l N B _ _) (rv_main C hI) cqX0_T_canGive ⟨Nat.le_of_ble_eq_true rfl, Nat.le_of_ble_eq_true rfl⟩ rfl hl.1 rfl (Nat.le_of_ble_eq_true rfl) dX0_share_81 (fun v7 x6 H locs hI hf => ?_)
    refine lv_iload_n hx hb dX0_share_84 rfl (lv_at hl 2 rfl) ?_
    suffices hJ : ∀ v8 : Int32, (v8 = (if v7 ≤ l3 then 0 else 1 : Int32)) → W p l e (tRm B frT_share loT_share s.heap.size (SL s.heap)) s m args below meth c H locs (tZ x6 - s.heap.size) (tY x6 - SL s.heap) (MQ below (tQ w A B (some (.int r)) xr) args s (B.1 - s.heap.size) (B.2 - SL s.heap) A) (F0 m 93 ls [.int v8, .int l4]) by
      refine lv_icmp_le (tgt := 92) hx hb dX0_share_85 (by decide) (fun hc => ?_) (fun hc => ?_)
      · refine lv_iconst (v := 0) hx hb dX0_share_92 (by decide) ?_
        exact hJ _ (if_pos hc).symm
      · refine lv_iconst (v := 1) hx hb dX0_share_88 (by decide) ?_
        refine lv_goto (tgt := 93) hx hb dX0_share_89 (by decide) ?_
        exact hJ _ (if_neg hc).symm
    intro v8 hv
    have hf := lt_of hv hf
    refine lv_isub hx hb dX0_share_93 ?_
    refine lv_istore (lv' := [(4, .int (l4 - v8)), (0, .ref (wa w 37)), (2, .int l2), (3, .int l3), (5, .int l5)]) hx hb dX0_share_94 hl (by decide) rfl (fun ls hl => ?_)
    refine lv_iinc (v := l5 + 1) (lv' := [(5, .int (l5 + 1)), (4, .int (l4 - v8)), (0, .ref (wa w 37)), (2, .int l2), (3, .int l3)]) hx hb dX0_share_96 hl (k := 4) rfl rfl (by decide) rfl (fun ls hl => ?_)
    refine lv_goto (tgt := 70) hx hb dX0_share_99 (by decide) ?_
    exact ih x6 l2 l3 (l4 - v8) (l5 + 1) _ _ _ hI (lv_sub hl [2, 3, 4, 1, 0] rfl) hf
def fT_share_b58 (N : Nat) (B : Nat × Nat) (x : TS) (l1 : Int32) (l2 : Int32) (l3 : Int32) : Option (Int32 × TS) :=
  b2 (fT_givenAt N B x l3) fun v2 x1 =>
  fT_share_b70 N B N x1 l2 l3 (l1 - v2) 0
theorem w_fT_share_b58 {N : Nat} {B : Nat × Nat} {r : Int32} {xr : TS} (C : tCx w A p s m args meth c cX0_share 6 RX0 (some .int)) : ∀ (x : TS) (l1 : Int32) (l2 : Int32) (l3 : Int32) (H : Heap) (locs : List Loc) (ls : Array Slot), tI w A B x s.heap H locs → lv_has ls 6 [(0, .ref (wa w 37)), (1, .int l1), (2, .int l2), (3, .int l3)] → fT_share_b58 N B x l1 l2 l3 = some (r, xr) → W p l e (tRm B frT_share loT_share s.heap.size (SL s.heap)) s m args below meth c H locs (tZ x - s.heap.size) (tY x - SL s.heap) (MQ below (tQ w A B (some (.int r)) xr) args s (B.1 - s.heap.size) (B.2 - SL s.heap) A) (F0 m 58 ls []) := by
  have hx := C.1.1
  have hb := C.1.2.1
  have hown := C.1.2.2.2.1
  have hts := C.1.2.2.2.2.1
  have hE := C.2.2
  intro x l1 l2 l3 H locs ls hI hl hf
  rw [fT_share_b58] at hf
  refine lv_iload_n hx hb dX0_share_58 rfl (lv_at hl 1 rfl) ?_
  refine lv_aload_n hx hb dX0_share_59 rfl (lv_at hl 0 rfl) ?_
  refine lv_iload_n hx hb dX0_share_60 rfl (lv_at hl 3 rfl) ?_
  refine t_cVi (rest := [.int l1]) C hI hf (tmT_givenAt l N B _ _) (rv_main C hI) cqX0_T_givenAt ⟨Nat.le_of_ble_eq_true rfl, Nat.le_of_ble_eq_true rfl⟩ rfl hl.1 rfl (Nat.le_of_ble_eq_true rfl) dX0_share_61 (fun v2 x1 H locs hI hf => ?_)
  refine lv_isub hx hb dX0_share_64 ?_
  refine lv_istore (lv' := [(4, .int (l1 - v2)), (0, .ref (wa w 37)), (1, .int l1), (2, .int l2), (3, .int l3)]) hx hb dX0_share_65 hl (by decide) rfl (fun ls hl => ?_)
  refine lv_iconst (v := 0) hx hb dX0_share_67 (by decide) ?_
  refine lv_istore (lv' := [(5, .int 0), (4, .int (l1 - v2)), (0, .ref (wa w 37)), (1, .int l1), (2, .int l2), (3, .int l3)]) hx hb dX0_share_68 hl (by decide) rfl (fun ls hl => ?_)
  exact w_fT_share_b70 C N x1 l2 l3 (l1 - v2) 0 _ _ _ hI (lv_sub hl [2, 4, 5, 1, 0] rfl) hf
def fT_share_b34 (N : Nat) (B : Nat × Nat) : Nat → TS → Int32 → Int32 → Int32 → Option (Int32 × TS)
  | 0, _, _, _, _ => none
  | n + 1, x, l1, l2, l3 =>
  if 999 ≤ l3 then
    fT_share_b58 N B x l1 l2 l3
  else
    b2 (fT_givenAt N B x (l3 + 1)) fun v2 x1 =>
    if l1 < v2 then
      fT_share_b58 N B x1 l1 l2 l3
    else
      fT_share_b34 N B n x1 l1 l2 (l3 + 1)
theorem w_fT_share_b34 {N : Nat} {B : Nat × Nat} {r : Int32} {xr : TS} (C : tCx w A p s m args meth c cX0_share 6 RX0 (some .int)) : ∀ (n : Nat) (x : TS) (l1 : Int32) (l2 : Int32) (l3 : Int32) (H : Heap) (locs : List Loc) (ls : Array Slot), tI w A B x s.heap H locs → lv_has ls 6 [(0, .ref (wa w 37)), (1, .int l1), (2, .int l2), (3, .int l3)] → fT_share_b34 N B n x l1 l2 l3 = some (r, xr) → W p l e (tRm B frT_share loT_share s.heap.size (SL s.heap)) s m args below meth c H locs (tZ x - s.heap.size) (tY x - SL s.heap) (MQ below (tQ w A B (some (.int r)) xr) args s (B.1 - s.heap.size) (B.2 - SL s.heap) A) (F0 m 34 ls []) := by
  have hx := C.1.1
  have hb := C.1.2.1
  have hown := C.1.2.2.2.1
  have hts := C.1.2.2.2.2.1
  have hE := C.2.2
  intro n
  induction n with
  | zero => intro x l1 l2 l3 H locs ls hI hl hf; rw [fT_share_b34] at hf; cases hf
  | succ n ih =>
  intro x l1 l2 l3 H locs ls hI hl hf
  rw [fT_share_b34] at hf
  refine lv_iload_n hx hb dX0_share_34 rfl (lv_at hl 3 rfl) ?_
  refine lv_sipush (v := 999) hx hb dX0_share_35 (by decide) ?_
  refine b_icge (tgt := 58) hx hb hf dX0_share_38 (by decide) (fun hf => ?_) (fun hf => ?_)
  · exact w_fT_share_b58 C x l1 l2 l3 _ _ _ hI (lv_sub hl [0, 1, 2, 3] rfl) hf
  · refine lv_aload_n hx hb dX0_share_41 rfl (lv_at hl 0 rfl) ?_
    refine lv_iload_n hx hb dX0_share_42 rfl (lv_at hl 3 rfl) ?_
    refine lv_iconst (v := 1) hx hb dX0_share_43 (by decide) ?_
    refine lv_iadd hx hb dX0_share_44 ?_
    refine t_cVi (rest := []) C hI hf (tmT_givenAt l N B _ _) (rv_main C hI) cqX0_T_givenAt ⟨Nat.le_of_ble_eq_true rfl, Nat.le_of_ble_eq_true rfl⟩ rfl hl.1 rfl (Nat.le_of_ble_eq_true rfl) dX0_share_45 (fun v2 x1 H locs hI hf => ?_)
    refine lv_iload_n hx hb dX0_share_48 rfl (lv_at hl 1 rfl) ?_
    refine b_icgt (tgt := 58) hx hb hf dX0_share_49 (by decide) (fun hf => ?_) (fun hf => ?_)
    · exact w_fT_share_b58 C x1 l1 l2 l3 _ _ _ hI (lv_sub hl [0, 1, 2, 3] rfl) hf
    · refine lv_iinc (v := l3 + 1) (lv' := [(3, .int (l3 + 1)), (0, .ref (wa w 37)), (1, .int l1), (2, .int l2)]) hx hb dX0_share_52 hl (k := 3) rfl rfl (by decide) rfl (fun ls hl => ?_)
      refine lv_goto (tgt := 34) hx hb dX0_share_55 (by decide) ?_
      exact ih x1 l1 l2 (l3 + 1) _ _ _ hI (lv_sub hl [1, 2, 3, 0] rfl) hf
def fT_share (N : Nat) (B : Nat × Nat) (x : TS) (l1 : Int32) (l2 : Int32) : Option (Int32 × TS) :=
  (fT_isIn N l1 0 9999).bind fun v1 =>
  if v1 = 0 then
    some ((-1), x)
  else
    b2 (fT_isLink N B x l2) fun v3 x2 =>
    if v3 = 0 then
      some ((-1), x2)
    else
      b2 (fT_givenAt N B x2 999) fun v5 x4 =>
      if l1 ≤ v5 then
        fT_share_b34 N B N x4 l1 l2 0
      else
        some ((-1), x4)
theorem tmT_share (l : Launch) (N : Nat) {w : tO} {A : Nat → Prop} (B : Nat × Nat) : ∀ (x : TS) (l1 : Int32) (l2 : Int32) (r : Int32) (xr : TS), fT_share N B x l1 l2 = some (r, xr) → tMet l yX0_share (ws_ yX0_share cX0_share 6 (some .int)) frT_share loT_share [.ref (wa w 37), .int l1, .int l2] w A B x (some (.int r)) xr := by
  intro x l1 l2 r xr hf
  refine t_start (cc := cX0_share) (own := RX0) (by decide +kernel) rfl (Nat.le_of_ble_eq_true rfl) rfl ?_
  intro p e s m args below meth c ls H locs C hmn hI hl
  have hx := C.1.1
  have hb := C.1.2.1
  have hown := C.1.2.2.2.1
  have hts := C.1.2.2.2.2.1
  have hE := C.2.2
  rw [fT_share] at hf
  refine lv_iload_n hx hb dX0_share_0 rfl (lv_at hl 1 rfl) ?_
  refine lv_iconst (v := 0) hx hb dX0_share_1 (by decide) ?_
  refine lv_sipush (v := 9999) hx hb dX0_share_2 (by decide) ?_
  refine g_calliS (rest := []) C.1 hf (smT_isIn l N _ _ _) cqT_T_isIn ⟨rfl, rfl⟩ ⟨Nat.le_of_ble_eq_true rfl, Nat.le_of_ble_eq_true rfl⟩ rfl hl.1 rfl (Nat.le_of_ble_eq_true rfl) (t_room hI) dX0_share_5 (fun v1 hf => ?_)
  refine b_ifeq (tgt := 30) hx hb hf dX0_share_8 (by decide) (fun hf => ?_) (fun hf => ?_)
  · refine lv_iconst (v := (-1)) hx hb dX0_share_30 (by decide) ?_
    exact t_iret C hI hf dX0_share_31
  · refine lv_aload_n hx hb dX0_share_11 rfl (lv_at hl 0 rfl) ?_
    refine lv_iload_n hx hb dX0_share_12 rfl (lv_at hl 2 rfl) ?_
    refine t_cVi (rest := []) C hI hf (tmT_isLink l N B _ _) (rv_main C hI) cqX0_T_isLink ⟨Nat.le_of_ble_eq_true rfl, Nat.le_of_ble_eq_true rfl⟩ rfl hl.1 rfl (Nat.le_of_ble_eq_true rfl) dX0_share_13 (fun v3 x2 H locs hI hf => ?_)
    refine b_ifeq (tgt := 30) hx hb hf dX0_share_16 (by decide) (fun hf => ?_) (fun hf => ?_)
    · refine lv_iconst (v := (-1)) hx hb dX0_share_30 (by decide) ?_
      exact t_iret C hI hf dX0_share_31
    · refine lv_aload_n hx hb dX0_share_19 rfl (lv_at hl 0 rfl) ?_
      refine lv_sipush (v := 999) hx hb dX0_share_20 (by decide) ?_
      refine t_cVi (rest := []) C hI hf (tmT_givenAt l N B _ _) (rv_main C hI) cqX0_T_givenAt ⟨Nat.le_of_ble_eq_true rfl, Nat.le_of_ble_eq_true rfl⟩ rfl hl.1 rfl (Nat.le_of_ble_eq_true rfl) dX0_share_23 (fun v5 x4 H locs hI hf => ?_)
      refine lv_iload_n hx hb dX0_share_26 rfl (lv_at hl 1 rfl) ?_
      refine b_icge (tgt := 32) hx hb hf dX0_share_27 (by decide) (fun hf => ?_) (fun hf => ?_)
      · refine lv_iconst (v := 0) hx hb dX0_share_32 (by decide) ?_
        refine lv_istore_n (lv' := [(3, .int 0), (0, .ref (wa w 37)), (1, .int l1), (2, .int l2)]) hx hb dX0_share_33 rfl hl (by decide) rfl (fun ls hl => ?_)
        exact w_fT_share_b34 C N x4 l1 l2 0 _ _ _ hI (lv_sub hl [1, 2, 3, 0] rfl) hf
      · refine lv_iconst (v := (-1)) hx hb dX0_share_30 (by decide) ?_
        exact t_iret C hI hf dX0_share_31
/-! TwelveChain.bluff(III)I -/
abbrev frT_bluff : Nat := 1
abbrev loT_bluff : Nat := 22
def fT_bluff (N : Nat) (B : Nat × Nat) (x : TS) (l1 : Int32) (l2 : Int32) (l3 : Int32) : Option (Int32 × TS) :=
  (fT_isIn N l1 0 1000).bind fun v1 =>
  if v1 = 0 then
    some ((-1), x)
  else
    (fT_isIn N l2 0 1000).bind fun v2 =>
    if v2 = 0 then
      some ((-1), x)
    else
      (fT_isIn N l3 0 1000).bind fun v3 =>
      if v3 = 0 then
        some ((-1), x)
      else
        if ((l1 * l2) + ((1000 - l1) * l3)) = 0 then
          some ((-1), x)
        else
          (fT_partOf N 1000000 (l1 * l2) ((l1 * l2) + ((1000 - l1) * l3))).bind fun v4 =>
          some (v4, x)
theorem tmT_bluff (l : Launch) (N : Nat) {w : tO} {A : Nat → Prop} (B : Nat × Nat) : ∀ (x : TS) (l1 : Int32) (l2 : Int32) (l3 : Int32) (r : Int32) (xr : TS), fT_bluff N B x l1 l2 l3 = some (r, xr) → tMet l yX0_bluff (ws_ yX0_bluff cX0_bluff 6 (some .int)) frT_bluff loT_bluff [.ref (wa w 37), .int l1, .int l2, .int l3] w A B x (some (.int r)) xr := by
  intro x l1 l2 l3 r xr hf
  refine t_start (cc := cX0_bluff) (own := RX0) (by decide +kernel) rfl (Nat.le_of_ble_eq_true rfl) rfl ?_
  intro p e s m args below meth c ls H locs C hmn hI hl
  have hx := C.1.1
  have hb := C.1.2.1
  have hown := C.1.2.2.2.1
  have hts := C.1.2.2.2.2.1
  have hE := C.2.2
  rw [fT_bluff] at hf
  refine lv_iload_n hx hb dX0_bluff_0 rfl (lv_at hl 1 rfl) ?_
  refine lv_iconst (v := 0) hx hb dX0_bluff_1 (by decide) ?_
  refine lv_sipush (v := 1000) hx hb dX0_bluff_2 (by decide) ?_
  refine g_calliS (rest := []) C.1 hf (smT_isIn l N _ _ _) cqT_T_isIn ⟨rfl, rfl⟩ ⟨Nat.le_of_ble_eq_true rfl, Nat.le_of_ble_eq_true rfl⟩ rfl hl.1 rfl (Nat.le_of_ble_eq_true rfl) (t_room hI) dX0_bluff_5 (fun v1 hf => ?_)
  refine b_ifeq (tgt := 33) hx hb hf dX0_bluff_8 (by decide) (fun hf => ?_) (fun hf => ?_)
  · refine lv_iconst (v := (-1)) hx hb dX0_bluff_33 (by decide) ?_
    exact t_iret C hI hf dX0_bluff_34
  · refine lv_iload_n hx hb dX0_bluff_11 rfl (lv_at hl 2 rfl) ?_
    refine lv_iconst (v := 0) hx hb dX0_bluff_12 (by decide) ?_
    refine lv_sipush (v := 1000) hx hb dX0_bluff_13 (by decide) ?_
    refine g_calliS (rest := []) C.1 hf (smT_isIn l N _ _ _) cqT_T_isIn ⟨rfl, rfl⟩ ⟨Nat.le_of_ble_eq_true rfl, Nat.le_of_ble_eq_true rfl⟩ rfl hl.1 rfl (Nat.le_of_ble_eq_true rfl) (t_room hI) dX0_bluff_16 (fun v2 hf => ?_)
    refine b_ifeq (tgt := 33) hx hb hf dX0_bluff_19 (by decide) (fun hf => ?_) (fun hf => ?_)
    · refine lv_iconst (v := (-1)) hx hb dX0_bluff_33 (by decide) ?_
      exact t_iret C hI hf dX0_bluff_34
    · refine lv_iload_n hx hb dX0_bluff_22 rfl (lv_at hl 3 rfl) ?_
      refine lv_iconst (v := 0) hx hb dX0_bluff_23 (by decide) ?_
      refine lv_sipush (v := 1000) hx hb dX0_bluff_24 (by decide) ?_
      refine g_calliS (rest := []) C.1 hf (smT_isIn l N _ _ _) cqT_T_isIn ⟨rfl, rfl⟩ ⟨Nat.le_of_ble_eq_true rfl, Nat.le_of_ble_eq_true rfl⟩ rfl hl.1 rfl (Nat.le_of_ble_eq_true rfl) (t_room hI) dX0_bluff_27 (fun v3 hf => ?_)
      refine b_ifne (tgt := 35) hx hb hf dX0_bluff_30 (by decide) (fun hf => ?_) (fun hf => ?_)
      · refine lv_iload_n hx hb dX0_bluff_35 rfl (lv_at hl 1 rfl) ?_
        refine lv_iload_n hx hb dX0_bluff_36 rfl (lv_at hl 2 rfl) ?_
        refine lv_imul hx hb dX0_bluff_37 ?_
        refine lv_istore (lv' := [(4, .int (l1 * l2)), (0, .ref (wa w 37)), (1, .int l1), (2, .int l2), (3, .int l3)]) hx hb dX0_bluff_38 hl (by decide) rfl (fun ls hl => ?_)
        refine lv_iload hx hb dX0_bluff_40 (lv_at hl 0 rfl) ?_
        refine lv_sipush (v := 1000) hx hb dX0_bluff_42 (by decide) ?_
        refine lv_iload_n hx hb dX0_bluff_45 rfl (lv_at hl 2 rfl) ?_
        refine lv_isub hx hb dX0_bluff_46 ?_
        refine lv_iload_n hx hb dX0_bluff_47 rfl (lv_at hl 4 rfl) ?_
        refine lv_imul hx hb dX0_bluff_48 ?_
        refine lv_iadd hx hb dX0_bluff_49 ?_
        refine lv_istore (lv' := [(5, .int ((l1 * l2) + ((1000 - l1) * l3))), (4, .int (l1 * l2)), (0, .ref (wa w 37)), (1, .int l1), (2, .int l2), (3, .int l3)]) hx hb dX0_bluff_50 hl (by decide) rfl (fun ls hl => ?_)
        refine lv_iload hx hb dX0_bluff_52 (lv_at hl 0 rfl) ?_
        refine b_ifne (tgt := 61) hx hb hf dX0_bluff_54 (by decide) (fun hf => ?_) (fun hf => ?_)
        · refine lv_ldcw hx hb hown (hts _ q1162) dX0_bluff_61 ?_
          refine lv_iload hx hb dX0_bluff_64 (lv_at hl 1 rfl) ?_
          refine lv_iload hx hb dX0_bluff_66 (lv_at hl 0 rfl) ?_
          refine g_calliS (rest := []) C.1 hf (smT_partOf l N _ _ _) cqT_T_partOf ⟨rfl, rfl⟩ ⟨Nat.le_of_ble_eq_true rfl, Nat.le_of_ble_eq_true rfl⟩ rfl hl.1 rfl (Nat.le_of_ble_eq_true rfl) (t_room hI) dX0_bluff_68 (fun v4 hf => ?_)
          exact t_iret C hI hf dX0_bluff_71
        · refine lv_iconst (v := (-1)) hx hb dX0_bluff_57 (by decide) ?_
          refine lv_goto (tgt := 71) hx hb dX0_bluff_58 (by decide) ?_
          exact t_iret C hI hf dX0_bluff_71
      · refine lv_iconst (v := (-1)) hx hb dX0_bluff_33 (by decide) ?_
        exact t_iret C hI hf dX0_bluff_34
/-! TwelveChain.signsBehind(II)I -/
abbrev frT_signsBehind : Nat := 1
abbrev loT_signsBehind : Nat := 21
def fT_signsBehind (N : Nat) (B : Nat × Nat) (x : TS) (l1 : Int32) (l2 : Int32) : Option (Int32 × TS) :=
  (rd 12 (tA x 29) l1).bind fun v1 =>
  (fJm_max N l2 v1).bind fun v2 =>
  (rd 12 (tA x 30) l1).bind fun v3 =>
  lt (if v3 < (v2 + 10) then 100000 else v2 + 10 : Int32) fun v4 =>
  some (v4, x)
theorem tmT_signsBehind (l : Launch) (N : Nat) {w : tO} {A : Nat → Prop} (B : Nat × Nat) : ∀ (x : TS) (l1 : Int32) (l2 : Int32) (r : Int32) (xr : TS), fT_signsBehind N B x l1 l2 = some (r, xr) → tMet l yX0_signsBehind (ws_ yX0_signsBehind cX0_signsBehind 4 (some .int)) frT_signsBehind loT_signsBehind [.ref (wa w 37), .int l1, .int l2] w A B x (some (.int r)) xr := by
  intro x l1 l2 r xr hf
  refine t_start (cc := cX0_signsBehind) (own := RX0) (by decide +kernel) rfl (Nat.le_of_ble_eq_true rfl) rfl ?_
  intro p e s m args below meth c ls H locs C hmn hI hl
  have hx := C.1.1
  have hb := C.1.2.1
  have hown := C.1.2.2.2.1
  have hts := C.1.2.2.2.2.1
  have hE := C.2.2
  rw [fT_signsBehind] at hf
  refine lv_iload_n hx hb dX0_signsBehind_0 rfl (lv_at hl 2 rfl) ?_
  refine lv_aload_n hx hb dX0_signsBehind_1 rfl (lv_at hl 0 rfl) ?_
  refine tgX0_172 C hI dX0_signsBehind_2 ?_
  refine lv_iload_n hx hb dX0_signsBehind_5 rfl (lv_at hl 1 rfl) ?_
  refine ta29 C hI hf dX0_signsBehind_6 (fun v1 hf => ?_)
  refine g_calliS (rest := []) C.1 hf (smJm_max l N _ _) cqT_Jm_max ⟨rfl, rfl⟩ ⟨Nat.le_of_ble_eq_true rfl, Nat.le_of_ble_eq_true rfl⟩ rfl hl.1 rfl (Nat.le_of_ble_eq_true rfl) (t_room hI) dX0_signsBehind_7 (fun v2 hf => ?_)
  refine lv_bipush (v := 10) hx hb dX0_signsBehind_10 (by decide) ?_
  refine lv_iadd hx hb dX0_signsBehind_12 ?_
  refine lv_istore_n (lv' := [(3, .int (v2 + 10)), (0, .ref (wa w 37)), (1, .int l1), (2, .int l2)]) hx hb dX0_signsBehind_13 rfl hl (by decide) rfl (fun ls hl => ?_)
  refine lv_iload_n hx hb dX0_signsBehind_14 rfl (lv_at hl 0 rfl) ?_
  refine lv_aload_n hx hb dX0_signsBehind_15 rfl (lv_at hl 1 rfl) ?_
  refine tgX0_175 C hI dX0_signsBehind_16 ?_
  refine lv_iload_n hx hb dX0_signsBehind_19 rfl (lv_at hl 2 rfl) ?_
  refine ta30 C hI hf dX0_signsBehind_20 (fun v3 hf => ?_)
  suffices hJ : ∀ v4 : Int32, (v4 = (if v3 < (v2 + 10) then 100000 else v2 + 10 : Int32)) → W p l e (tRm B frT_signsBehind loT_signsBehind s.heap.size (SL s.heap)) s m args below meth c H locs (tZ x - s.heap.size) (tY x - SL s.heap) (MQ below (tQ w A B (some (.int r)) xr) args s (B.1 - s.heap.size) (B.2 - SL s.heap) A) (F0 m 31 ls [.int v4]) by
    refine lv_icmp_gt (tgt := 28) hx hb dX0_signsBehind_21 (by decide) (fun hc => ?_) (fun hc => ?_)
    · refine lv_ldcw hx hb hown (hts _ q1286) dX0_signsBehind_28 ?_
      exact hJ _ (if_pos hc).symm
    · refine lv_iload_n hx hb dX0_signsBehind_24 rfl (lv_at hl 0 rfl) ?_
      refine lv_goto (tgt := 31) hx hb dX0_signsBehind_25 (by decide) ?_
      exact hJ _ (if_neg hc).symm
  intro v4 hv
  have hf := lt_of hv hf
  exact t_iret C hI hf dX0_signsBehind_31
/-! TwelveChain.findsSigned(II)V -/
abbrev frT_findsSigned : Nat := 2
abbrev loT_findsSigned : Nat := 44
def fT_findsSigned_b87 (N : Nat) (B : Nat × Nat) (k2 : TS → Int32 → Int32 → Int32 → Option TS) (k33 : TS → Int32 → Int32 → Int32 → Int32 → Option TS) (x : TS) (l1 : Int32) (l2 : Int32) (l3 : Int32) (l4 : Int32) (s0 : Int32) : Option TS :=
  if 100000 ≤ s0 then
    k33 x l1 l2 l3 (l4 + 1)
  else
    (rd 4096 (tA x 28) l3).bind fun v1 =>
    b2 (fT_signsBehind N B x l4 s0) fun v3 x2 =>
    (fJm_min N v1 v3).bind fun v4 =>
    (wrT x2 28 l3 v4).bind fun x5 =>
    k33 x5 l1 l2 l3 (l4 + 1)
theorem w_fT_findsSigned_b87 {N : Nat} {B : Nat × Nat} {xr : TS} {k2 : TS → Int32 → Int32 → Int32 → Option TS} {k33 : TS → Int32 → Int32 → Int32 → Int32 → Option TS} (C : tCx w A p s m args meth c cX0_findsSigned 6 RX0 none) (hk2 : ∀ (x : TS) (l1 : Int32) (l2 : Int32) (l3 : Int32) (H : Heap) (locs : List Loc) (ls : Array Slot), tI w A B x s.heap H locs → lv_has ls 6 [(0, .ref (wa w 37)), (1, .int l1), (2, .int l2), (3, .int l3)] → k2 x l1 l2 l3 = some xr → W p l e (tRm B frT_findsSigned loT_findsSigned s.heap.size (SL s.heap)) s m args below meth c H locs (tZ x - s.heap.size) (tY x - SL s.heap) (MQ below (tQ w A B none xr) args s (B.1 - s.heap.size) (B.2 - SL s.heap) A) (F0 m 2 ls [])) (hk33 : ∀ (x : TS) (l1 : Int32) (l2 : Int32) (l3 : Int32) (l4 : Int32) (H : Heap) (locs : List Loc) (ls : Array Slot), tI w A B x s.heap H locs → lv_has ls 6 [(0, .ref (wa w 37)), (1, .int l1), (2, .int l2), (3, .int l3), (4, .int l4)] → k33 x l1 l2 l3 l4 = some xr → W p l e (tRm B frT_findsSigned loT_findsSigned s.heap.size (SL s.heap)) s m args below meth c H locs (tZ x - s.heap.size) (tY x - SL s.heap) (MQ below (tQ w A B none xr) args s (B.1 - s.heap.size) (B.2 - SL s.heap) A) (F0 m 33 ls [])) : ∀ (x : TS) (l1 : Int32) (l2 : Int32) (l3 : Int32) (l4 : Int32) (s0 : Int32) (H : Heap) (locs : List Loc) (ls : Array Slot), tI w A B x s.heap H locs → lv_has ls 6 [(0, .ref (wa w 37)), (1, .int l1), (2, .int l2), (3, .int l3), (4, .int l4)] → fT_findsSigned_b87 N B k2 k33 x l1 l2 l3 l4 s0 = some xr → W p l e (tRm B frT_findsSigned loT_findsSigned s.heap.size (SL s.heap)) s m args below meth c H locs (tZ x - s.heap.size) (tY x - SL s.heap) (MQ below (tQ w A B none xr) args s (B.1 - s.heap.size) (B.2 - SL s.heap) A) (F0 m 87 ls [.int s0]) := by
  have hx := C.1.1
  have hb := C.1.2.1
  have hown := C.1.2.2.2.1
  have hts := C.1.2.2.2.2.1
  have hE := C.2.2
  intro x l1 l2 l3 l4 s0 H locs ls hI hl hf
  rw [fT_findsSigned_b87] at hf
  refine lv_istore (lv' := [(5, .int s0), (0, .ref (wa w 37)), (1, .int l1), (2, .int l2), (3, .int l3), (4, .int l4)]) hx hb dX0_findsSigned_87 hl (by decide) rfl (fun ls hl => ?_)
  refine lv_iload hx hb dX0_findsSigned_89 (lv_at hl 0 rfl) ?_
  refine lv_ldcw hx hb hown (hts _ q1286) dX0_findsSigned_91 ?_
  refine b_icge (tgt := 120) hx hb hf dX0_findsSigned_94 (by decide) (fun hf => ?_) (fun hf => ?_)
  · refine lv_iinc (v := l4 + 1) (lv' := [(4, .int (l4 + 1)), (5, .int s0), (0, .ref (wa w 37)), (1, .int l1), (2, .int l2), (3, .int l3)]) hx hb dX0_findsSigned_120 hl (k := 5) rfl rfl (by decide) rfl (fun ls hl => ?_)
    refine lv_goto (tgt := 33) hx hb dX0_findsSigned_123 (by decide) ?_
    exact hk33 x l1 l2 l3 (l4 + 1) _ _ _ hI (lv_sub hl [2, 3, 4, 5, 0] rfl) hf
  · refine lv_aload_n hx hb dX0_findsSigned_97 rfl (lv_at hl 1 rfl) ?_
    refine tgX0_169 C hI dX0_findsSigned_98 ?_
    refine lv_iload_n hx hb dX0_findsSigned_101 rfl (lv_at hl 4 rfl) ?_
    refine lv_aload_n hx hb dX0_findsSigned_102 rfl (lv_at hl 1 rfl) ?_
    refine tgX0_169 C hI dX0_findsSigned_103 ?_
    refine lv_iload_n hx hb dX0_findsSigned_106 rfl (lv_at hl 4 rfl) ?_
    refine ta28 C hI hf dX0_findsSigned_107 (fun v1 hf => ?_)
    refine lv_aload_n hx hb dX0_findsSigned_108 rfl (lv_at hl 1 rfl) ?_
    refine lv_iload hx hb dX0_findsSigned_109 (lv_at hl 5 rfl) ?_
    refine lv_iload hx hb dX0_findsSigned_111 (lv_at hl 0 rfl) ?_
    refine t_cVi (rest := [.int v1, .int l3, .ref (wa w 28)]) C hI hf (tmT_signsBehind l N B _ _ _) (rv_main C hI) cqX0_T_signsBehind ⟨Nat.le_of_ble_eq_true rfl, Nat.le_of_ble_eq_true rfl⟩ rfl hl.1 rfl (Nat.le_of_ble_eq_true rfl) dX0_findsSigned_113 (fun v3 x2 H locs hI hf => ?_)
    refine g_calliS (rest := [.int l3, .ref (wa w 28)]) C.1 hf (smJm_min l N _ _) cqT_Jm_min ⟨rfl, rfl⟩ ⟨Nat.le_of_ble_eq_true rfl, Nat.le_of_ble_eq_true rfl⟩ rfl hl.1 rfl (Nat.le_of_ble_eq_true rfl) (t_room hI) dX0_findsSigned_116 (fun v4 hf => ?_)
    refine ts28 C hI hf dX0_findsSigned_119 (fun x5 H locs hI hf => ?_)
    refine lv_iinc (v := l4 + 1) (lv' := [(4, .int (l4 + 1)), (5, .int s0), (0, .ref (wa w 37)), (1, .int l1), (2, .int l2), (3, .int l3)]) hx hb dX0_findsSigned_120 hl (k := 5) rfl rfl (by decide) rfl (fun ls hl => ?_)
    refine lv_goto (tgt := 33) hx hb dX0_findsSigned_123 (by decide) ?_
    exact hk33 x5 l1 l2 l3 (l4 + 1) _ _ _ hI (lv_sub hl [2, 3, 4, 5, 0] rfl) hf
def fT_findsSigned_b33 (N : Nat) (B : Nat × Nat) (k2 : TS → Int32 → Int32 → Int32 → Option TS) : Nat → TS → Int32 → Int32 → Int32 → Int32 → Option TS
  | 0, _, _, _, _, _ => none
  | n + 1, x, l1, l2, l3, l4 =>
  if (tS x 21) ≤ l4 then
    k2 x l1 l2 (l3 + 1)
  else
    if l3 = l1 then
      k2 x l1 l2 (l3 + 1)
    else
      (fT_isBeyond N l3 l1).bind fun v1 =>
      if v1 = 0 then
        k2 x l1 l2 (l3 + 1)
      else
        (fT_has N (l3 &&& (l1 ^^^ (-1))) l4).bind fun v2 =>
        if v2 = 0 then
          fT_findsSigned_b87 N B k2 (fT_findsSigned_b33 N B k2 n) x l1 l2 l3 l4 100000
        else
          (rd 4096 (tA x 28) (l3 &&& ((1 <<< (l4 &&& 31)) ^^^ (-1)))).bind fun v3 =>
          fT_findsSigned_b87 N B k2 (fT_findsSigned_b33 N B k2 n) x l1 l2 l3 l4 v3
theorem w_fT_findsSigned_b33 {N : Nat} {B : Nat × Nat} {xr : TS} {k2 : TS → Int32 → Int32 → Int32 → Option TS} (C : tCx w A p s m args meth c cX0_findsSigned 6 RX0 none) (hk2 : ∀ (x : TS) (l1 : Int32) (l2 : Int32) (l3 : Int32) (H : Heap) (locs : List Loc) (ls : Array Slot), tI w A B x s.heap H locs → lv_has ls 6 [(0, .ref (wa w 37)), (1, .int l1), (2, .int l2), (3, .int l3)] → k2 x l1 l2 l3 = some xr → W p l e (tRm B frT_findsSigned loT_findsSigned s.heap.size (SL s.heap)) s m args below meth c H locs (tZ x - s.heap.size) (tY x - SL s.heap) (MQ below (tQ w A B none xr) args s (B.1 - s.heap.size) (B.2 - SL s.heap) A) (F0 m 2 ls [])) : ∀ (n : Nat) (x : TS) (l1 : Int32) (l2 : Int32) (l3 : Int32) (l4 : Int32) (H : Heap) (locs : List Loc) (ls : Array Slot), tI w A B x s.heap H locs → lv_has ls 6 [(0, .ref (wa w 37)), (1, .int l1), (2, .int l2), (3, .int l3), (4, .int l4)] → fT_findsSigned_b33 N B k2 n x l1 l2 l3 l4 = some xr → W p l e (tRm B frT_findsSigned loT_findsSigned s.heap.size (SL s.heap)) s m args below meth c H locs (tZ x - s.heap.size) (tY x - SL s.heap) (MQ below (tQ w A B none xr) args s (B.1 - s.heap.size) (B.2 - SL s.heap) A) (F0 m 33 ls []) := by
  have hx := C.1.1
  have hb := C.1.2.1
  have hown := C.1.2.2.2.1
  have hts := C.1.2.2.2.2.1
  have hE := C.2.2
  intro n
  induction n with
  | zero => intro x l1 l2 l3 l4 H locs ls hI hl hf; rw [fT_findsSigned_b33] at hf; cases hf
  | succ n ih =>
  intro x l1 l2 l3 l4 H locs ls hI hl hf
  rw [fT_findsSigned_b33] at hf
  refine lv_iload hx hb dX0_findsSigned_33 (lv_at hl 4 rfl) ?_
  refine lv_aload_n hx hb dX0_findsSigned_35 rfl (lv_at hl 0 rfl) ?_
  refine tgX0_346 C hI dX0_findsSigned_36 ?_
  refine b_icge (tgt := 126) hx hb hf dX0_findsSigned_39 (by decide) (fun hf => ?_) (fun hf => ?_)
  · refine lv_iinc (v := l3 + 1) (lv' := [(3, .int (l3 + 1)), (0, .ref (wa w 37)), (1, .int l1), (2, .int l2), (4, .int l4)]) hx hb dX0_findsSigned_126 hl (k := 3) rfl rfl (by decide) rfl (fun ls hl => ?_)
    refine lv_goto (tgt := 2) hx hb dX0_findsSigned_129 (by decide) ?_
    exact hk2 x l1 l2 (l3 + 1) _ _ _ hI (lv_sub hl [1, 2, 3, 0] rfl) hf
  · refine lv_iload_n hx hb dX0_findsSigned_42 rfl (lv_at hl 3 rfl) ?_
    refine lv_iload_n hx hb dX0_findsSigned_43 rfl (lv_at hl 1 rfl) ?_
    refine b_iceq (tgt := 126) hx hb hf dX0_findsSigned_44 (by decide) (fun hf => ?_) (fun hf => ?_)
    · refine lv_iinc (v := l3 + 1) (lv' := [(3, .int (l3 + 1)), (0, .ref (wa w 37)), (1, .int l1), (2, .int l2), (4, .int l4)]) hx hb dX0_findsSigned_126 hl (k := 3) rfl rfl (by decide) rfl (fun ls hl => ?_)
      refine lv_goto (tgt := 2) hx hb dX0_findsSigned_129 (by decide) ?_
      exact hk2 x l1 l2 (l3 + 1) _ _ _ hI (lv_sub hl [1, 2, 3, 0] rfl) hf
    · refine lv_iload_n hx hb dX0_findsSigned_47 rfl (lv_at hl 3 rfl) ?_
      refine lv_iload_n hx hb dX0_findsSigned_48 rfl (lv_at hl 1 rfl) ?_
      refine g_calliS (rest := []) C.1 hf (smT_isBeyond l N _ _) cqT_T_isBeyond ⟨rfl, rfl⟩ ⟨Nat.le_of_ble_eq_true rfl, Nat.le_of_ble_eq_true rfl⟩ rfl hl.1 rfl (Nat.le_of_ble_eq_true rfl) (t_room hI) dX0_findsSigned_49 (fun v1 hf => ?_)
      refine b_ifeq (tgt := 126) hx hb hf dX0_findsSigned_52 (by decide) (fun hf => ?_) (fun hf => ?_)
      · refine lv_iinc (v := l3 + 1) (lv' := [(3, .int (l3 + 1)), (0, .ref (wa w 37)), (1, .int l1), (2, .int l2), (4, .int l4)]) hx hb dX0_findsSigned_126 hl (k := 3) rfl rfl (by decide) rfl (fun ls hl => ?_)
        refine lv_goto (tgt := 2) hx hb dX0_findsSigned_129 (by decide) ?_
        exact hk2 x l1 l2 (l3 + 1) _ _ _ hI (lv_sub hl [1, 2, 3, 0] rfl) hf
      · refine lv_iload_n hx hb dX0_findsSigned_55 rfl (lv_at hl 3 rfl) ?_
        refine lv_iload_n hx hb dX0_findsSigned_56 rfl (lv_at hl 1 rfl) ?_
        refine lv_iconst (v := (-1)) hx hb dX0_findsSigned_57 (by decide) ?_
        refine lv_ixor hx hb dX0_findsSigned_58 ?_
        refine lv_iand hx hb dX0_findsSigned_59 ?_
        refine lv_iload hx hb dX0_findsSigned_60 (lv_at hl 4 rfl) ?_
        refine g_calliS (rest := []) C.1 hf (smT_has l N _ _) cqT_T_has ⟨rfl, rfl⟩ ⟨Nat.le_of_ble_eq_true rfl, Nat.le_of_ble_eq_true rfl⟩ rfl hl.1 rfl (Nat.le_of_ble_eq_true rfl) (t_room hI) dX0_findsSigned_62 (fun v2 hf => ?_)
        refine b_ifeq (tgt := 84) hx hb hf dX0_findsSigned_65 (by decide) (fun hf => ?_) (fun hf => ?_)
        · refine lv_ldcw hx hb hown (hts _ q1286) dX0_findsSigned_84 ?_
          exact w_fT_findsSigned_b87 C hk2 ih x l1 l2 l3 l4 100000 _ _ _ hI (lv_sub hl [0, 1, 2, 3, 4] rfl) hf
        · refine lv_aload_n hx hb dX0_findsSigned_68 rfl (lv_at hl 0 rfl) ?_
          refine tgX0_169 C hI dX0_findsSigned_69 ?_
          refine lv_iload_n hx hb dX0_findsSigned_72 rfl (lv_at hl 3 rfl) ?_
          refine lv_iconst (v := 1) hx hb dX0_findsSigned_73 (by decide) ?_
          refine lv_iload hx hb dX0_findsSigned_74 (lv_at hl 4 rfl) ?_
          refine lv_ishl hx hb dX0_findsSigned_76 ?_
          refine lv_iconst (v := (-1)) hx hb dX0_findsSigned_77 (by decide) ?_
          refine lv_ixor hx hb dX0_findsSigned_78 ?_
          refine lv_iand hx hb dX0_findsSigned_79 ?_
          refine ta28 C hI hf dX0_findsSigned_80 (fun v3 hf => ?_)
          refine lv_goto (tgt := 87) hx hb dX0_findsSigned_81 (by decide) ?_
          exact w_fT_findsSigned_b87 C hk2 ih x l1 l2 l3 l4 v3 _ _ _ hI (lv_sub hl [0, 1, 2, 3, 4] rfl) hf
def fT_findsSigned_b2 (N : Nat) (B : Nat × Nat) : Nat → TS → Int32 → Int32 → Int32 → Option TS
  | 0, _, _, _, _ => none
  | n + 1, x, l1, l2, l3 =>
  if (1 <<< ((tS x 21) &&& 31)) ≤ l3 then
    some x
  else
    lt (if l3 = l1 then l2 else 100000 : Int32) fun v1 =>
    (wrT x 28 l3 v1).bind fun x2 =>
    fT_findsSigned_b33 N B (fT_findsSigned_b2 N B n) N x2 l1 l2 l3 0
theorem w_fT_findsSigned_b2 {N : Nat} {B : Nat × Nat} {xr : TS} (C : tCx w A p s m args meth c cX0_findsSigned 6 RX0 none) : ∀ (n : Nat) (x : TS) (l1 : Int32) (l2 : Int32) (l3 : Int32) (H : Heap) (locs : List Loc) (ls : Array Slot), tI w A B x s.heap H locs → lv_has ls 6 [(0, .ref (wa w 37)), (1, .int l1), (2, .int l2), (3, .int l3)] → fT_findsSigned_b2 N B n x l1 l2 l3 = some xr → W p l e (tRm B frT_findsSigned loT_findsSigned s.heap.size (SL s.heap)) s m args below meth c H locs (tZ x - s.heap.size) (tY x - SL s.heap) (MQ below (tQ w A B none xr) args s (B.1 - s.heap.size) (B.2 - SL s.heap) A) (F0 m 2 ls []) := by
  have hx := C.1.1
  have hb := C.1.2.1
  have hown := C.1.2.2.2.1
  have hts := C.1.2.2.2.2.1
  have hE := C.2.2
  intro n
  induction n with
  | zero => intro x l1 l2 l3 H locs ls hI hl hf; rw [fT_findsSigned_b2] at hf; cases hf
  | succ n ih =>
  intro x l1 l2 l3 H locs ls hI hl hf
  rw [fT_findsSigned_b2] at hf
  refine lv_iload_n hx hb dX0_findsSigned_2 rfl (lv_at hl 3 rfl) ?_
  refine lv_iconst (v := 1) hx hb dX0_findsSigned_3 (by decide) ?_
  refine lv_aload_n hx hb dX0_findsSigned_4 rfl (lv_at hl 0 rfl) ?_
  refine tgX0_346 C hI dX0_findsSigned_5 ?_
  refine lv_ishl hx hb dX0_findsSigned_8 ?_
  refine b_icge (tgt := 132) hx hb hf dX0_findsSigned_9 (by decide) (fun hf => ?_) (fun hf => ?_)
  · exact t_vret C hI hf dX0_findsSigned_132
  · refine lv_aload_n hx hb dX0_findsSigned_12 rfl (lv_at hl 0 rfl) ?_
    refine tgX0_169 C hI dX0_findsSigned_13 ?_
    refine lv_iload_n hx hb dX0_findsSigned_16 rfl (lv_at hl 3 rfl) ?_
    refine lv_iload_n hx hb dX0_findsSigned_17 rfl (lv_at hl 3 rfl) ?_
    refine lv_iload_n hx hb dX0_findsSigned_18 rfl (lv_at hl 1 rfl) ?_
    suffices hJ : ∀ v1 : Int32, (v1 = (if l3 = l1 then l2 else 100000 : Int32)) → W p l e (tRm B frT_findsSigned loT_findsSigned s.heap.size (SL s.heap)) s m args below meth c H locs (tZ x - s.heap.size) (tY x - SL s.heap) (MQ below (tQ w A B none xr) args s (B.1 - s.heap.size) (B.2 - SL s.heap) A) (F0 m 29 ls [.int v1, .int l3, .ref (wa w 28)]) by
      refine lv_icmp_ne (tgt := 26) hx hb dX0_findsSigned_19 (by decide) (fun hc => ?_) (fun hc => ?_)
      · refine lv_ldcw hx hb hown (hts _ q1286) dX0_findsSigned_26 ?_
        exact hJ _ (if_neg hc).symm
      · refine lv_iload_n hx hb dX0_findsSigned_22 rfl (lv_at hl 2 rfl) ?_
        refine lv_goto (tgt := 29) hx hb dX0_findsSigned_23 (by decide) ?_
        exact hJ _ (if_pos hc).symm
    intro v1 hv
    have hf := lt_of hv hf
    refine ts28 C hI hf dX0_findsSigned_29 (fun x2 H locs hI hf => ?_)
    refine lv_iconst (v := 0) hx hb dX0_findsSigned_30 (by decide) ?_
    refine lv_istore (lv' := [(4, .int 0), (0, .ref (wa w 37)), (1, .int l1), (2, .int l2), (3, .int l3)]) hx hb dX0_findsSigned_31 hl (by decide) rfl (fun ls hl => ?_)
    exact w_fT_findsSigned_b33 C ih N x2 l1 l2 l3 0 _ _ _ hI (lv_sub hl [1, 2, 3, 4, 0] rfl) hf
def fT_findsSigned (N : Nat) (B : Nat × Nat) (x : TS) (l1 : Int32) (l2 : Int32) : Option TS :=
  fT_findsSigned_b2 N B N x l1 l2 0
theorem tmT_findsSigned (l : Launch) (N : Nat) {w : tO} {A : Nat → Prop} (B : Nat × Nat) : ∀ (x : TS) (l1 : Int32) (l2 : Int32) (xr : TS), fT_findsSigned N B x l1 l2 = some xr → tMet l yX0_findsSigned (ws_ yX0_findsSigned cX0_findsSigned 6 none) frT_findsSigned loT_findsSigned [.ref (wa w 37), .int l1, .int l2] w A B x none xr := by
  intro x l1 l2 xr hf
  refine t_start (cc := cX0_findsSigned) (own := RX0) (by decide +kernel) rfl (Nat.le_of_ble_eq_true rfl) rfl ?_
  intro p e s m args below meth c ls H locs C hmn hI hl
  have hx := C.1.1
  have hb := C.1.2.1
  have hown := C.1.2.2.2.1
  have hts := C.1.2.2.2.2.1
  have hE := C.2.2
  rw [fT_findsSigned] at hf
  refine lv_iconst (v := 0) hx hb dX0_findsSigned_0 (by decide) ?_
  refine lv_istore_n (lv' := [(3, .int 0), (0, .ref (wa w 37)), (1, .int l1), (2, .int l2)]) hx hb dX0_findsSigned_1 rfl hl (by decide) rfl (fun ls hl => ?_)
  exact w_fT_findsSigned_b2 C N x l1 l2 0 _ _ _ hI (lv_sub hl [1, 2, 3, 0] rfl) hf
/-! TwelveChain.mostSigned()I -/
abbrev frT_mostSigned : Nat := 1
abbrev loT_mostSigned : Nat := 21
def fT_mostSigned_b4 (N : Nat) (B : Nat × Nat) : Nat → TS → Int32 → Int32 → Option (Int32 × TS)
  | 0, _, _, _ => none
  | n + 1, x, l1, l2 =>
  if (1 <<< ((tS x 21) &&& 31)) ≤ l2 then
    some (l1, x)
  else
    (rd 4096 (tA x 28) l2).bind fun v1 =>
    if 100000 ≤ v1 then
      fT_mostSigned_b4 N B n x l1 (l2 + 1)
    else
      (fJi_bitCount N l2).bind fun v2 =>
      (fJm_max N l1 v2).bind fun v3 =>
      fT_mostSigned_b4 N B n x v3 (l2 + 1)
theorem w_fT_mostSigned_b4 {N : Nat} {B : Nat × Nat} {r : Int32} {xr : TS} (C : tCx w A p s m args meth c cX0_mostSigned 3 RX0 (some .int)) : ∀ (n : Nat) (x : TS) (l1 : Int32) (l2 : Int32) (H : Heap) (locs : List Loc) (ls : Array Slot), tI w A B x s.heap H locs → lv_has ls 3 [(0, .ref (wa w 37)), (1, .int l1), (2, .int l2)] → fT_mostSigned_b4 N B n x l1 l2 = some (r, xr) → W p l e (tRm B frT_mostSigned loT_mostSigned s.heap.size (SL s.heap)) s m args below meth c H locs (tZ x - s.heap.size) (tY x - SL s.heap) (MQ below (tQ w A B (some (.int r)) xr) args s (B.1 - s.heap.size) (B.2 - SL s.heap) A) (F0 m 4 ls []) := by
  have hx := C.1.1
  have hb := C.1.2.1
  have hown := C.1.2.2.2.1
  have hts := C.1.2.2.2.2.1
  have hE := C.2.2
  intro n
  induction n with
  | zero => intro x l1 l2 H locs ls hI hl hf; rw [fT_mostSigned_b4] at hf; cases hf
  | succ n ih =>
  intro x l1 l2 H locs ls hI hl hf
  rw [fT_mostSigned_b4] at hf
  refine lv_iload_n hx hb dX0_mostSigned_4 rfl (lv_at hl 2 rfl) ?_
  refine lv_iconst (v := 1) hx hb dX0_mostSigned_5 (by decide) ?_
  refine lv_aload_n hx hb dX0_mostSigned_6 rfl (lv_at hl 0 rfl) ?_
  refine tgX0_346 C hI dX0_mostSigned_7 ?_
  refine lv_ishl hx hb dX0_mostSigned_10 ?_
  refine b_icge (tgt := 45) hx hb hf dX0_mostSigned_11 (by decide) (fun hf => ?_) (fun hf => ?_)
  · refine lv_iload_n hx hb dX0_mostSigned_45 rfl (lv_at hl 1 rfl) ?_
    exact t_iret C hI hf dX0_mostSigned_46
  · refine lv_aload_n hx hb dX0_mostSigned_14 rfl (lv_at hl 0 rfl) ?_
    refine tgX0_169 C hI dX0_mostSigned_15 ?_
    refine lv_iload_n hx hb dX0_mostSigned_18 rfl (lv_at hl 2 rfl) ?_
    refine ta28 C hI hf dX0_mostSigned_19 (fun v1 hf => ?_)
    refine lv_ldcw hx hb hown (hts _ q1286) dX0_mostSigned_20 ?_
    refine b_icge (tgt := 37) hx hb hf dX0_mostSigned_23 (by decide) (fun hf => ?_) (fun hf => ?_)
    · refine lv_iload_n hx hb dX0_mostSigned_37 rfl (lv_at hl 1 rfl) ?_
      refine lv_istore_n (lv' := [(1, .int l1), (0, .ref (wa w 37)), (2, .int l2)]) hx hb dX0_mostSigned_38 rfl hl (by decide) rfl (fun ls hl => ?_)
      refine lv_iinc (v := l2 + 1) (lv' := [(2, .int (l2 + 1)), (1, .int l1), (0, .ref (wa w 37))]) hx hb dX0_mostSigned_39 hl (k := 2) rfl rfl (by decide) rfl (fun ls hl => ?_)
      refine lv_goto (tgt := 4) hx hb dX0_mostSigned_42 (by decide) ?_
      exact ih x l1 (l2 + 1) _ _ _ hI (lv_sub hl [2, 1, 0] rfl) hf
    · refine lv_iload_n hx hb dX0_mostSigned_26 rfl (lv_at hl 1 rfl) ?_
      refine lv_iload_n hx hb dX0_mostSigned_27 rfl (lv_at hl 2 rfl) ?_
      refine g_calliS (rest := [.int l1]) C.1 hf (smJi_bitCount l N _) cqT_Ji_bitCount ⟨rfl, rfl⟩ ⟨Nat.le_of_ble_eq_true rfl, Nat.le_of_ble_eq_true rfl⟩ rfl hl.1 rfl (Nat.le_of_ble_eq_true rfl) (t_room hI) dX0_mostSigned_28 (fun v2 hf => ?_)
      refine g_calliS (rest := []) C.1 hf (smJm_max l N _ _) cqT_Jm_max ⟨rfl, rfl⟩ ⟨Nat.le_of_ble_eq_true rfl, Nat.le_of_ble_eq_true rfl⟩ rfl hl.1 rfl (Nat.le_of_ble_eq_true rfl) (t_room hI) dX0_mostSigned_31 (fun v3 hf => ?_)
      refine lv_goto (tgt := 38) hx hb dX0_mostSigned_34 (by decide) ?_
      refine lv_istore_n (lv' := [(1, .int v3), (0, .ref (wa w 37)), (2, .int l2)]) hx hb dX0_mostSigned_38 rfl hl (by decide) rfl (fun ls hl => ?_)
      refine lv_iinc (v := l2 + 1) (lv' := [(2, .int (l2 + 1)), (1, .int v3), (0, .ref (wa w 37))]) hx hb dX0_mostSigned_39 hl (k := 2) rfl rfl (by decide) rfl (fun ls hl => ?_)
      refine lv_goto (tgt := 4) hx hb dX0_mostSigned_42 (by decide) ?_
      exact ih x v3 (l2 + 1) _ _ _ hI (lv_sub hl [2, 1, 0] rfl) hf
def fT_mostSigned (N : Nat) (B : Nat × Nat) (x : TS) : Option (Int32 × TS) :=
  fT_mostSigned_b4 N B N x 0 0
theorem tmT_mostSigned (l : Launch) (N : Nat) {w : tO} {A : Nat → Prop} (B : Nat × Nat) : ∀ (x : TS) (r : Int32) (xr : TS), fT_mostSigned N B x  = some (r, xr) → tMet l yX0_mostSigned (ws_ yX0_mostSigned cX0_mostSigned 3 (some .int)) frT_mostSigned loT_mostSigned [.ref (wa w 37)] w A B x (some (.int r)) xr := by
  intro x  r xr hf
  refine t_start (cc := cX0_mostSigned) (own := RX0) (by decide +kernel) rfl (Nat.le_of_ble_eq_true rfl) rfl ?_
  intro p e s m args below meth c ls H locs C hmn hI hl
  have hx := C.1.1
  have hb := C.1.2.1
  have hown := C.1.2.2.2.1
  have hts := C.1.2.2.2.2.1
  have hE := C.2.2
  rw [fT_mostSigned] at hf
  refine lv_iconst (v := 0) hx hb dX0_mostSigned_0 (by decide) ?_
  refine lv_istore_n (lv' := [(1, .int 0), (0, .ref (wa w 37))]) hx hb dX0_mostSigned_1 rfl hl (by decide) rfl (fun ls hl => ?_)
  refine lv_iconst (v := 0) hx hb dX0_mostSigned_2 (by decide) ?_
  refine lv_istore_n (lv' := [(2, .int 0), (1, .int 0), (0, .ref (wa w 37))]) hx hb dX0_mostSigned_3 rfl hl (by decide) rfl (fun ls hl => ?_)
  exact w_fT_mostSigned_b4 C N x 0 0 _ _ _ hI (lv_sub hl [2, 1, 0] rfl) hf
/-! TwelveChain.signerAt(II)I -/
abbrev frT_signerAt : Nat := 3
abbrev loT_signerAt : Nat := 69
def fT_signerAt_b72 (N : Nat) (B : Nat × Nat) (k18 : TS → Int32 → Int32 → Int32 → Int32 → Int32 → Int32 → Option (Int32 × TS)) (k33 : TS → Int32 → Int32 → Int32 → Int32 → Int32 → Int32 → Int32 → Int32 → Option (Int32 × TS)) (x : TS) (l1 : Int32) (l2 : Int32) (l3 : Int32) (l4 : Int32) (l5 : Int32) (l6 : Int32) (l7 : Int32) (l8 : Int32) (s0 : Int32) : Option (Int32 × TS) :=
  if s0 < 100000 then
    (fT_findsSigned N B x (l4 ||| (1 <<< (l8 &&& 31))) s0).bind fun x1 =>
    (rd 4096 (tA x1 28) l3).bind fun v2 =>
    lt (if v2 = l2 then l8 else (-1) : Int32) fun v3 =>
    k33 x1 l1 l2 l3 l4 l5 l6 v3 (l8 + 1)
  else
    k33 x l1 l2 l3 l4 l5 l6 l7 (l8 + 1)
theorem w_fT_signerAt_b72 {N : Nat} {B : Nat × Nat} {r : Int32} {xr : TS} {k18 : TS → Int32 → Int32 → Int32 → Int32 → Int32 → Int32 → Option (Int32 × TS)} {k33 : TS → Int32 → Int32 → Int32 → Int32 → Int32 → Int32 → Int32 → Int32 → Option (Int32 × TS)} (C : tCx w A p s m args meth c cX0_signerAt 10 RX0 (some .int)) (hk18 : ∀ (x : TS) (l1 : Int32) (l2 : Int32) (l3 : Int32) (l4 : Int32) (l5 : Int32) (l6 : Int32) (H : Heap) (locs : List Loc) (ls : Array Slot), tI w A B x s.heap H locs → lv_has ls 10 [(0, .ref (wa w 37)), (1, .int l1), (2, .int l2), (3, .int l3), (4, .int l4), (5, .int l5), (6, .int l6)] → k18 x l1 l2 l3 l4 l5 l6 = some (r, xr) → W p l e (tRm B frT_signerAt loT_signerAt s.heap.size (SL s.heap)) s m args below meth c H locs (tZ x - s.heap.size) (tY x - SL s.heap) (MQ below (tQ w A B (some (.int r)) xr) args s (B.1 - s.heap.size) (B.2 - SL s.heap) A) (F0 m 18 ls [])) (hk33 : ∀ (x : TS) (l1 : Int32) (l2 : Int32) (l3 : Int32) (l4 : Int32) (l5 : Int32) (l6 : Int32) (l7 : Int32) (l8 : Int32) (H : Heap) (locs : List Loc) (ls : Array Slot), tI w A B x s.heap H locs → lv_has ls 10 [(0, .ref (wa w 37)), (1, .int l1), (2, .int l2), (3, .int l3), (4, .int l4), (5, .int l5), (6, .int l6), (7, .int l7), (8, .int l8)] → k33 x l1 l2 l3 l4 l5 l6 l7 l8 = some (r, xr) → W p l e (tRm B frT_signerAt loT_signerAt s.heap.size (SL s.heap)) s m args below meth c H locs (tZ x - s.heap.size) (tY x - SL s.heap) (MQ below (tQ w A B (some (.int r)) xr) args s (B.1 - s.heap.size) (B.2 - SL s.heap) A) (F0 m 33 ls [])) : ∀ (x : TS) (l1 : Int32) (l2 : Int32) (l3 : Int32) (l4 : Int32) (l5 : Int32) (l6 : Int32) (l7 : Int32) (l8 : Int32) (s0 : Int32) (H : Heap) (locs : List Loc) (ls : Array Slot), tI w A B x s.heap H locs → lv_has ls 10 [(0, .ref (wa w 37)), (1, .int l1), (2, .int l2), (3, .int l3), (4, .int l4), (5, .int l5), (6, .int l6), (7, .int l7), (8, .int l8)] → fT_signerAt_b72 N B k18 k33 x l1 l2 l3 l4 l5 l6 l7 l8 s0 = some (r, xr) → W p l e (tRm B frT_signerAt loT_signerAt s.heap.size (SL s.heap)) s m args below meth c H locs (tZ x - s.heap.size) (tY x - SL s.heap) (MQ below (tQ w A B (some (.int r)) xr) args s (B.1 - s.heap.size) (B.2 - SL s.heap) A) (F0 m 72 ls [.int s0]) := by
  have hx := C.1.1
  have hb := C.1.2.1
  have hown := C.1.2.2.2.1
  have hts := C.1.2.2.2.2.1
  have hE := C.2.2
  intro x l1 l2 l3 l4 l5 l6 l7 l8 s0 H locs ls hI hl hf
  rw [fT_signerAt_b72] at hf
  refine lv_istore (lv' := [(9, .int s0), (0, .ref (wa w 37)), (1, .int l1), (2, .int l2), (3, .int l3), (4, .int l4), (5, .int l5), (6, .int l6), (7, .int l7), (8, .int l8)]) hx hb dX0_signerAt_72 hl (by decide) rfl (fun ls hl => ?_)
  refine lv_iload hx hb dX0_signerAt_74 (lv_at hl 0 rfl) ?_
  refine lv_ldcw hx hb hown (hts _ q1286) dX0_signerAt_76 ?_
  refine b_iclt (tgt := 85) hx hb hf dX0_signerAt_79 (by decide) (fun hf => ?_) (fun hf => ?_)
  · refine lv_aload_n hx hb dX0_signerAt_85 rfl (lv_at hl 1 rfl) ?_
    refine lv_iload hx hb dX0_signerAt_86 (lv_at hl 5 rfl) ?_
    refine lv_iconst (v := 1) hx hb dX0_signerAt_88 (by decide) ?_
    refine lv_iload hx hb dX0_signerAt_89 (lv_at hl 9 rfl) ?_
    refine lv_ishl hx hb dX0_signerAt_91 ?_
    refine lv_ior hx hb dX0_signerAt_92 ?_
    refine lv_iload hx hb dX0_signerAt_93 (lv_at hl 0 rfl) ?_
    refine t_cVv (rest := []) C hI hf (tmT_findsSigned l N B _ _ _) (rv_main C hI) cqX0_T_findsSigned ⟨Nat.le_of_ble_eq_true rfl, Nat.le_of_ble_eq_true rfl⟩ rfl hl.1 rfl (Nat.le_of_ble_eq_true rfl) dX0_signerAt_95 (fun x1 H locs hI hf => ?_)
    refine lv_aload_n hx hb dX0_signerAt_98 rfl (lv_at hl 1 rfl) ?_
    refine tgX0_169 C hI dX0_signerAt_99 ?_
    refine lv_iload_n hx hb dX0_signerAt_102 rfl (lv_at hl 4 rfl) ?_
    refine ta28 C hI hf dX0_signerAt_103 (fun v2 hf => ?_)
    refine lv_iload_n hx hb dX0_signerAt_104 rfl (lv_at hl 3 rfl) ?_
    suffices hJ : ∀ v3 : Int32, (v3 = (if v2 = l2 then l8 else (-1) : Int32)) → W p l e (tRm B frT_signerAt loT_signerAt s.heap.size (SL s.heap)) s m args below meth c H locs (tZ x1 - s.heap.size) (tY x1 - SL s.heap) (MQ below (tQ w A B (some (.int r)) xr) args s (B.1 - s.heap.size) (B.2 - SL s.heap) A) (F0 m 114 ls [.int v3]) by
      refine lv_icmp_ne (tgt := 113) hx hb dX0_signerAt_105 (by decide) (fun hc => ?_) (fun hc => ?_)
      · refine lv_iconst (v := (-1)) hx hb dX0_signerAt_113 (by decide) ?_
        exact hJ _ (if_neg hc).symm
      · refine lv_iload hx hb dX0_signerAt_108 (lv_at hl 9 rfl) ?_
        refine lv_goto (tgt := 114) hx hb dX0_signerAt_110 (by decide) ?_
        exact hJ _ (if_pos hc).symm
    intro v3 hv
    have hf := lt_of hv hf
    refine lv_istore (lv' := [(7, .int v3), (9, .int s0), (0, .ref (wa w 37)), (1, .int l1), (2, .int l2), (3, .int l3), (4, .int l4), (5, .int l5), (6, .int l6), (8, .int l8)]) hx hb dX0_signerAt_114 hl (by decide) rfl (fun ls hl => ?_)
    refine lv_iinc (v := l8 + 1) (lv' := [(8, .int (l8 + 1)), (7, .int v3), (9, .int s0), (0, .ref (wa w 37)), (1, .int l1), (2, .int l2), (3, .int l3), (4, .int l4), (5, .int l5), (6, .int l6)]) hx hb dX0_signerAt_116 hl (k := 9) rfl rfl (by decide) rfl (fun ls hl => ?_)
    refine lv_goto (tgt := 33) hx hb dX0_signerAt_119 (by decide) ?_
    exact hk33 x1 l1 l2 l3 l4 l5 l6 v3 (l8 + 1) _ _ _ hI (lv_sub hl [3, 4, 5, 6, 7, 8, 9, 1, 0] rfl) hf
  · refine lv_goto (tgt := 116) hx hb dX0_signerAt_82 (by decide) ?_
    refine lv_iinc (v := l8 + 1) (lv' := [(8, .int (l8 + 1)), (9, .int s0), (0, .ref (wa w 37)), (1, .int l1), (2, .int l2), (3, .int l3), (4, .int l4), (5, .int l5), (6, .int l6), (7, .int l7)]) hx hb dX0_signerAt_116 hl (k := 9) rfl rfl (by decide) rfl (fun ls hl => ?_)
    refine lv_goto (tgt := 33) hx hb dX0_signerAt_119 (by decide) ?_
    exact hk33 x l1 l2 l3 l4 l5 l6 l7 (l8 + 1) _ _ _ hI (lv_sub hl [2, 3, 4, 5, 6, 7, 8, 9, 0] rfl) hf
def fT_signerAt_b122 (N : Nat) (B : Nat × Nat) (k18 : TS → Int32 → Int32 → Int32 → Int32 → Int32 → Int32 → Option (Int32 × TS)) (x : TS) (l1 : Int32) (l2 : Int32) (l3 : Int32) (l4 : Int32) (l5 : Int32) (l6 : Int32) (l7 : Int32) : Option (Int32 × TS) :=
  if l6 = l1 then
    some (l7, x)
  else
    b2 (fT_signsBehind N B x l7 l5) fun v2 x1 =>
    k18 x1 l1 l2 l3 (l4 ||| (1 <<< (l7 &&& 31))) v2 (l6 + 1)
theorem w_fT_signerAt_b122 {N : Nat} {B : Nat × Nat} {r : Int32} {xr : TS} {k18 : TS → Int32 → Int32 → Int32 → Int32 → Int32 → Int32 → Option (Int32 × TS)} (C : tCx w A p s m args meth c cX0_signerAt 10 RX0 (some .int)) (hk18 : ∀ (x : TS) (l1 : Int32) (l2 : Int32) (l3 : Int32) (l4 : Int32) (l5 : Int32) (l6 : Int32) (H : Heap) (locs : List Loc) (ls : Array Slot), tI w A B x s.heap H locs → lv_has ls 10 [(0, .ref (wa w 37)), (1, .int l1), (2, .int l2), (3, .int l3), (4, .int l4), (5, .int l5), (6, .int l6)] → k18 x l1 l2 l3 l4 l5 l6 = some (r, xr) → W p l e (tRm B frT_signerAt loT_signerAt s.heap.size (SL s.heap)) s m args below meth c H locs (tZ x - s.heap.size) (tY x - SL s.heap) (MQ below (tQ w A B (some (.int r)) xr) args s (B.1 - s.heap.size) (B.2 - SL s.heap) A) (F0 m 18 ls [])) : ∀ (x : TS) (l1 : Int32) (l2 : Int32) (l3 : Int32) (l4 : Int32) (l5 : Int32) (l6 : Int32) (l7 : Int32) (H : Heap) (locs : List Loc) (ls : Array Slot), tI w A B x s.heap H locs → lv_has ls 10 [(0, .ref (wa w 37)), (1, .int l1), (2, .int l2), (3, .int l3), (4, .int l4), (5, .int l5), (6, .int l6), (7, .int l7)] → fT_signerAt_b122 N B k18 x l1 l2 l3 l4 l5 l6 l7 = some (r, xr) → W p l e (tRm B frT_signerAt loT_signerAt s.heap.size (SL s.heap)) s m args below meth c H locs (tZ x - s.heap.size) (tY x - SL s.heap) (MQ below (tQ w A B (some (.int r)) xr) args s (B.1 - s.heap.size) (B.2 - SL s.heap) A) (F0 m 122 ls []) := by
  have hx := C.1.1
  have hb := C.1.2.1
  have hown := C.1.2.2.2.1
  have hts := C.1.2.2.2.2.1
  have hE := C.2.2
  intro x l1 l2 l3 l4 l5 l6 l7 H locs ls hI hl hf
  rw [fT_signerAt_b122] at hf
  refine lv_iload hx hb dX0_signerAt_122 (lv_at hl 6 rfl) ?_
  refine lv_iload_n hx hb dX0_signerAt_124 rfl (lv_at hl 1 rfl) ?_
  refine b_icne (tgt := 131) hx hb hf dX0_signerAt_125 (by decide) (fun hf => ?_) (fun hf => ?_)
  · refine lv_aload_n hx hb dX0_signerAt_131 rfl (lv_at hl 0 rfl) ?_
    refine lv_iload hx hb dX0_signerAt_132 (lv_at hl 7 rfl) ?_
    refine lv_iload hx hb dX0_signerAt_134 (lv_at hl 5 rfl) ?_
    refine t_cVi (rest := []) C hI hf (tmT_signsBehind l N B _ _ _) (rv_main C hI) cqX0_T_signsBehind ⟨Nat.le_of_ble_eq_true rfl, Nat.le_of_ble_eq_true rfl⟩ rfl hl.1 rfl (Nat.le_of_ble_eq_true rfl) dX0_signerAt_136 (fun v2 x1 H locs hI hf => ?_)
    refine lv_istore (lv' := [(5, .int v2), (0, .ref (wa w 37)), (1, .int l1), (2, .int l2), (3, .int l3), (4, .int l4), (6, .int l6), (7, .int l7)]) hx hb dX0_signerAt_139 hl (by decide) rfl (fun ls hl => ?_)
    refine lv_iload hx hb dX0_signerAt_141 (lv_at hl 5 rfl) ?_
    refine lv_iconst (v := 1) hx hb dX0_signerAt_143 (by decide) ?_
    refine lv_iload hx hb dX0_signerAt_144 (lv_at hl 7 rfl) ?_
    refine lv_ishl hx hb dX0_signerAt_146 ?_
    refine lv_ior hx hb dX0_signerAt_147 ?_
    refine lv_istore (lv' := [(4, .int (l4 ||| (1 <<< (l7 &&& 31)))), (5, .int v2), (0, .ref (wa w 37)), (1, .int l1), (2, .int l2), (3, .int l3), (6, .int l6), (7, .int l7)]) hx hb dX0_signerAt_148 hl (by decide) rfl (fun ls hl => ?_)
    refine lv_iinc (v := l6 + 1) (lv' := [(6, .int (l6 + 1)), (4, .int (l4 ||| (1 <<< (l7 &&& 31)))), (5, .int v2), (0, .ref (wa w 37)), (1, .int l1), (2, .int l2), (3, .int l3), (7, .int l7)]) hx hb dX0_signerAt_150 hl (k := 6) rfl rfl (by decide) rfl (fun ls hl => ?_)
    refine lv_goto (tgt := 18) hx hb dX0_signerAt_153 (by decide) ?_
    exact hk18 x1 l1 l2 l3 (l4 ||| (1 <<< (l7 &&& 31))) v2 (l6 + 1) _ _ _ hI (lv_sub hl [3, 4, 5, 6, 1, 2, 0] rfl) hf
  · refine lv_iload hx hb dX0_signerAt_128 (lv_at hl 7 rfl) ?_
    exact t_iret C hI hf dX0_signerAt_130
def fT_signerAt_b33 (N : Nat) (B : Nat × Nat) (k18 : TS → Int32 → Int32 → Int32 → Int32 → Int32 → Int32 → Option (Int32 × TS)) : Nat → TS → Int32 → Int32 → Int32 → Int32 → Int32 → Int32 → Int32 → Int32 → Option (Int32 × TS)
  | 0, _, _, _, _, _, _, _, _, _ => none
  | n + 1, x, l1, l2, l3, l4, l5, l6, l7, l8 =>
  if (tS x 21) ≤ l8 then
    fT_signerAt_b122 N B k18 x l1 l2 l3 l4 l5 l6 l7
  else
    if l7 = (-1) then
      (fT_has N l4 l8).bind fun v1 =>
      if v1 = 0 then
        b2 (fT_signsBehind N B x l8 l5) fun v3 x2 =>
        fT_signerAt_b72 N B k18 (fT_signerAt_b33 N B k18 n) x2 l1 l2 l3 l4 l5 l6 l7 l8 v3
      else
        fT_signerAt_b72 N B k18 (fT_signerAt_b33 N B k18 n) x l1 l2 l3 l4 l5 l6 l7 l8 100000
    else
      fT_signerAt_b122 N B k18 x l1 l2 l3 l4 l5 l6 l7
theorem w_fT_signerAt_b33 {N : Nat} {B : Nat × Nat} {r : Int32} {xr : TS} {k18 : TS → Int32 → Int32 → Int32 → Int32 → Int32 → Int32 → Option (Int32 × TS)} (C : tCx w A p s m args meth c cX0_signerAt 10 RX0 (some .int)) (hk18 : ∀ (x : TS) (l1 : Int32) (l2 : Int32) (l3 : Int32) (l4 : Int32) (l5 : Int32) (l6 : Int32) (H : Heap) (locs : List Loc) (ls : Array Slot), tI w A B x s.heap H locs → lv_has ls 10 [(0, .ref (wa w 37)), (1, .int l1), (2, .int l2), (3, .int l3), (4, .int l4), (5, .int l5), (6, .int l6)] → k18 x l1 l2 l3 l4 l5 l6 = some (r, xr) → W p l e (tRm B frT_signerAt loT_signerAt s.heap.size (SL s.heap)) s m args below meth c H locs (tZ x - s.heap.size) (tY x - SL s.heap) (MQ below (tQ w A B (some (.int r)) xr) args s (B.1 - s.heap.size) (B.2 - SL s.heap) A) (F0 m 18 ls [])) : ∀ (n : Nat) (x : TS) (l1 : Int32) (l2 : Int32) (l3 : Int32) (l4 : Int32) (l5 : Int32) (l6 : Int32) (l7 : Int32) (l8 : Int32) (H : Heap) (locs : List Loc) (ls : Array Slot), tI w A B x s.heap H locs → lv_has ls 10 [(0, .ref (wa w 37)), (1, .int l1), (2, .int l2), (3, .int l3), (4, .int l4), (5, .int l5), (6, .int l6), (7, .int l7), (8, .int l8)] → fT_signerAt_b33 N B k18 n x l1 l2 l3 l4 l5 l6 l7 l8 = some (r, xr) → W p l e (tRm B frT_signerAt loT_signerAt s.heap.size (SL s.heap)) s m args below meth c H locs (tZ x - s.heap.size) (tY x - SL s.heap) (MQ below (tQ w A B (some (.int r)) xr) args s (B.1 - s.heap.size) (B.2 - SL s.heap) A) (F0 m 33 ls []) := by
  have hx := C.1.1
  have hb := C.1.2.1
  have hown := C.1.2.2.2.1
  have hts := C.1.2.2.2.2.1
  have hE := C.2.2
  intro n
  induction n with
  | zero => intro x l1 l2 l3 l4 l5 l6 l7 l8 H locs ls hI hl hf; rw [fT_signerAt_b33] at hf; cases hf
  | succ n ih =>
  intro x l1 l2 l3 l4 l5 l6 l7 l8 H locs ls hI hl hf
  rw [fT_signerAt_b33] at hf
  refine lv_iload hx hb dX0_signerAt_33 (lv_at hl 8 rfl) ?_
  refine lv_aload_n hx hb dX0_signerAt_35 rfl (lv_at hl 0 rfl) ?_
  refine tgX0_346 C hI dX0_signerAt_36 ?_
  refine b_icge (tgt := 122) hx hb hf dX0_signerAt_39 (by decide) (fun hf => ?_) (fun hf => ?_)
  · exact w_fT_signerAt_b122 C hk18 x l1 l2 l3 l4 l5 l6 l7 _ _ _ hI (lv_sub hl [0, 1, 2, 3, 4, 5, 6, 7] rfl) hf
  · refine lv_iload hx hb dX0_signerAt_42 (lv_at hl 7 rfl) ?_
    refine lv_iconst (v := (-1)) hx hb dX0_signerAt_44 (by decide) ?_
    refine b_icne (tgt := 122) hx hb hf dX0_signerAt_45 (by decide) (fun hf => ?_) (fun hf => ?_)
    · exact w_fT_signerAt_b122 C hk18 x l1 l2 l3 l4 l5 l6 l7 _ _ _ hI (lv_sub hl [0, 1, 2, 3, 4, 5, 6, 7] rfl) hf
    · refine lv_iload hx hb dX0_signerAt_48 (lv_at hl 4 rfl) ?_
      refine lv_iload hx hb dX0_signerAt_50 (lv_at hl 8 rfl) ?_
      refine g_calliS (rest := []) C.1 hf (smT_has l N _ _) cqT_T_has ⟨rfl, rfl⟩ ⟨Nat.le_of_ble_eq_true rfl, Nat.le_of_ble_eq_true rfl⟩ rfl hl.1 rfl (Nat.le_of_ble_eq_true rfl) (t_room hI) dX0_signerAt_52 (fun v1 hf => ?_)
      refine b_ifeq (tgt := 64) hx hb hf dX0_signerAt_55 (by decide) (fun hf => ?_) (fun hf => ?_)
      · refine lv_aload_n hx hb dX0_signerAt_64 rfl (lv_at hl 0 rfl) ?_
        refine lv_iload hx hb dX0_signerAt_65 (lv_at hl 8 rfl) ?_
        refine lv_iload hx hb dX0_signerAt_67 (lv_at hl 5 rfl) ?_
        refine t_cVi (rest := []) C hI hf (tmT_signsBehind l N B _ _ _) (rv_main C hI) cqX0_T_signsBehind ⟨Nat.le_of_ble_eq_true rfl, Nat.le_of_ble_eq_true rfl⟩ rfl hl.1 rfl (Nat.le_of_ble_eq_true rfl) dX0_signerAt_69 (fun v3 x2 H locs hI hf => ?_)
        exact w_fT_signerAt_b72 C hk18 ih x2 l1 l2 l3 l4 l5 l6 l7 l8 v3 _ _ _ hI (lv_sub hl [0, 1, 2, 3, 4, 5, 6, 7, 8] rfl) hf
      · refine lv_ldcw hx hb hown (hts _ q1286) dX0_signerAt_58 ?_
        refine lv_goto (tgt := 72) hx hb dX0_signerAt_61 (by decide) ?_
        exact w_fT_signerAt_b72 C hk18 ih x l1 l2 l3 l4 l5 l6 l7 l8 100000 _ _ _ hI (lv_sub hl [0, 1, 2, 3, 4, 5, 6, 7, 8] rfl) hf
def fT_signerAt_b18 (N : Nat) (B : Nat × Nat) : Nat → TS → Int32 → Int32 → Int32 → Int32 → Int32 → Int32 → Option (Int32 × TS)
  | 0, _, _, _, _, _, _, _ => none
  | n + 1, x, l1, l2, l3, l4, l5, l6 =>
  if (tS x 21) ≤ l6 then
    some ((-1), x)
  else
    fT_signerAt_b33 N B (fT_signerAt_b18 N B n) N x l1 l2 l3 l4 l5 l6 (-1) 0
theorem w_fT_signerAt_b18 {N : Nat} {B : Nat × Nat} {r : Int32} {xr : TS} (C : tCx w A p s m args meth c cX0_signerAt 10 RX0 (some .int)) : ∀ (n : Nat) (x : TS) (l1 : Int32) (l2 : Int32) (l3 : Int32) (l4 : Int32) (l5 : Int32) (l6 : Int32) (H : Heap) (locs : List Loc) (ls : Array Slot), tI w A B x s.heap H locs → lv_has ls 10 [(0, .ref (wa w 37)), (1, .int l1), (2, .int l2), (3, .int l3), (4, .int l4), (5, .int l5), (6, .int l6)] → fT_signerAt_b18 N B n x l1 l2 l3 l4 l5 l6 = some (r, xr) → W p l e (tRm B frT_signerAt loT_signerAt s.heap.size (SL s.heap)) s m args below meth c H locs (tZ x - s.heap.size) (tY x - SL s.heap) (MQ below (tQ w A B (some (.int r)) xr) args s (B.1 - s.heap.size) (B.2 - SL s.heap) A) (F0 m 18 ls []) := by
  have hx := C.1.1
  have hb := C.1.2.1
  have hown := C.1.2.2.2.1
  have hts := C.1.2.2.2.2.1
  have hE := C.2.2
  intro n
  induction n with
  | zero => intro x l1 l2 l3 l4 l5 l6 H locs ls hI hl hf; rw [fT_signerAt_b18] at hf; cases hf
  | succ n ih =>
  intro x l1 l2 l3 l4 l5 l6 H locs ls hI hl hf
  rw [fT_signerAt_b18] at hf
  refine lv_iload hx hb dX0_signerAt_18 (lv_at hl 6 rfl) ?_
  refine lv_aload_n hx hb dX0_signerAt_20 rfl (lv_at hl 0 rfl) ?_
  refine tgX0_346 C hI dX0_signerAt_21 ?_
  refine b_icge (tgt := 156) hx hb hf dX0_signerAt_24 (by decide) (fun hf => ?_) (fun hf => ?_)
  · refine lv_iconst (v := (-1)) hx hb dX0_signerAt_156 (by decide) ?_
    exact t_iret C hI hf dX0_signerAt_157
  · refine lv_iconst (v := (-1)) hx hb dX0_signerAt_27 (by decide) ?_
    refine lv_istore (lv' := [(7, .int (-1)), (0, .ref (wa w 37)), (1, .int l1), (2, .int l2), (3, .int l3), (4, .int l4), (5, .int l5), (6, .int l6)]) hx hb dX0_signerAt_28 hl (by decide) rfl (fun ls hl => ?_)
    refine lv_iconst (v := 0) hx hb dX0_signerAt_30 (by decide) ?_
    refine lv_istore (lv' := [(8, .int 0), (7, .int (-1)), (0, .ref (wa w 37)), (1, .int l1), (2, .int l2), (3, .int l3), (4, .int l4), (5, .int l5), (6, .int l6)]) hx hb dX0_signerAt_31 hl (by decide) rfl (fun ls hl => ?_)
    exact w_fT_signerAt_b33 C ih N x l1 l2 l3 l4 l5 l6 (-1) 0 _ _ _ hI (lv_sub hl [2, 3, 4, 5, 6, 7, 8, 1, 0] rfl) hf
def fT_signerAt (N : Nat) (B : Nat × Nat) (x : TS) (l1 : Int32) (l2 : Int32) : Option (Int32 × TS) :=
  fT_signerAt_b18 N B N x l1 l2 ((1 <<< ((tS x 21) &&& 31)) - 1) 0 0 0
theorem tmT_signerAt (l : Launch) (N : Nat) {w : tO} {A : Nat → Prop} (B : Nat × Nat) : ∀ (x : TS) (l1 : Int32) (l2 : Int32) (r : Int32) (xr : TS), fT_signerAt N B x l1 l2 = some (r, xr) → tMet l yX0_signerAt (ws_ yX0_signerAt cX0_signerAt 10 (some .int)) frT_signerAt loT_signerAt [.ref (wa w 37), .int l1, .int l2] w A B x (some (.int r)) xr := by
  intro x l1 l2 r xr hf
  refine t_start (cc := cX0_signerAt) (own := RX0) (by decide +kernel) rfl (Nat.le_of_ble_eq_true rfl) rfl ?_
  intro p e s m args below meth c ls H locs C hmn hI hl
  have hx := C.1.1
  have hb := C.1.2.1
  have hown := C.1.2.2.2.1
  have hts := C.1.2.2.2.2.1
  have hE := C.2.2
  rw [fT_signerAt] at hf
  refine lv_iconst (v := 1) hx hb dX0_signerAt_0 (by decide) ?_
  refine lv_aload_n hx hb dX0_signerAt_1 rfl (lv_at hl 0 rfl) ?_
  refine tgX0_346 C hI dX0_signerAt_2 ?_
  refine lv_ishl hx hb dX0_signerAt_5 ?_
  refine lv_iconst (v := 1) hx hb dX0_signerAt_6 (by decide) ?_
  refine lv_isub hx hb dX0_signerAt_7 ?_
  refine lv_istore_n (lv' := [(3, .int ((1 <<< ((tS x 21) &&& 31)) - 1)), (0, .ref (wa w 37)), (1, .int l1), (2, .int l2)]) hx hb dX0_signerAt_8 rfl hl (by decide) rfl (fun ls hl => ?_)
  refine lv_iconst (v := 0) hx hb dX0_signerAt_9 (by decide) ?_
  refine lv_istore (lv' := [(4, .int 0), (3, .int ((1 <<< ((tS x 21) &&& 31)) - 1)), (0, .ref (wa w 37)), (1, .int l1), (2, .int l2)]) hx hb dX0_signerAt_10 hl (by decide) rfl (fun ls hl => ?_)
  refine lv_iconst (v := 0) hx hb dX0_signerAt_12 (by decide) ?_
  refine lv_istore (lv' := [(5, .int 0), (4, .int 0), (3, .int ((1 <<< ((tS x 21) &&& 31)) - 1)), (0, .ref (wa w 37)), (1, .int l1), (2, .int l2)]) hx hb dX0_signerAt_13 hl (by decide) rfl (fun ls hl => ?_)
  refine lv_iconst (v := 0) hx hb dX0_signerAt_15 (by decide) ?_
  refine lv_istore (lv' := [(6, .int 0), (5, .int 0), (4, .int 0), (3, .int ((1 <<< ((tS x 21) &&& 31)) - 1)), (0, .ref (wa w 37)), (1, .int l1), (2, .int l2)]) hx hb dX0_signerAt_16 hl (by decide) rfl (fun ls hl => ?_)
  exact w_fT_signerAt_b18 C N x l1 l2 ((1 <<< ((tS x 21) &&& 31)) - 1) 0 0 0 _ _ _ hI (lv_sub hl [4, 5, 6, 3, 2, 1, 0] rfl) hf
/-! TwelveChain.signs(I)I -/
abbrev frT_signs : Nat := 4
abbrev loT_signs : Nat := 98
def fT_signs_b29 (N : Nat) (B : Nat × Nat) : Nat → TS → Int32 → Int32 → Option (Int32 × TS)
  | 0, _, _, _ => none
  | n + 1, x, l1, l2 =>
  if (tS x 21) ≤ l2 then
    (fT_findsSigned N B x 0 0).bind fun x1 =>
    if l1 = 1 then
      b2 (fT_mostSigned N B x1) fun v6 x5 =>
      some (v6, x5)
    else
      (rd 4096 (tA x1 28) ((1 <<< ((tS x1 21) &&& 31)) - 1)).bind fun v2 =>
      if v2 < 100000 then
        if l1 = 0 then
          some (v2, x1)
        else
          b2 (fT_signerAt N B x1 (l1 - 10) v2) fun v4 x3 =>
          some (v4, x3)
      else
        some ((-1), x1)
  else
    b2 (fT_phoneOf N B x l2 0) fun v8 x7 =>
    (wrT x7 29 l2 v8).bind fun x9 =>
    b2 (fT_phoneOf N B x9 l2 1) fun v11 x10 =>
    (wrT x10 30 l2 v11).bind fun x12 =>
    fT_signs_b29 N B n x12 l1 (l2 + 1)
theorem w_fT_signs_b29 {N : Nat} {B : Nat × Nat} {r : Int32} {xr : TS} (C : tCx w A p s m args meth c cX0_signs 3 RX0 (some .int)) : ∀ (n : Nat) (x : TS) (l1 : Int32) (l2 : Int32) (H : Heap) (locs : List Loc) (ls : Array Slot), tI w A B x s.heap H locs → lv_has ls 3 [(0, .ref (wa w 37)), (1, .int l1), (2, .int l2)] → fT_signs_b29 N B n x l1 l2 = some (r, xr) → W p l e (tRm B frT_signs loT_signs s.heap.size (SL s.heap)) s m args below meth c H locs (tZ x - s.heap.size) (tY x - SL s.heap) (MQ below (tQ w A B (some (.int r)) xr) args s (B.1 - s.heap.size) (B.2 - SL s.heap) A) (F0 m 29 ls []) := by
  have hx := C.1.1
  have hb := C.1.2.1
  have hown := C.1.2.2.2.1
  have hts := C.1.2.2.2.2.1
  have hE := C.2.2
  intro n
  induction n with
  | zero => intro x l1 l2 H locs ls hI hl hf; rw [fT_signs_b29] at hf; cases hf
  | succ n ih =>
  intro x l1 l2 H locs ls hI hl hf
  rw [fT_signs_b29] at hf
  refine lv_iload_n hx hb dX0_signs_29 rfl (lv_at hl 2 rfl) ?_
  refine lv_aload_n hx hb dX0_signs_30 rfl (lv_at hl 0 rfl) ?_
  refine tgX0_346 C hI dX0_signs_31 ?_
  refine b_icge (tgt := 67) hx hb hf dX0_signs_34 (by decide) (fun hf => ?_) (fun hf => ?_)
  · refine lv_aload_n hx hb dX0_signs_67 rfl (lv_at hl 0 rfl) ?_
    refine lv_iconst (v := 0) hx hb dX0_signs_68 (by decide) ?_
    refine lv_iconst (v := 0) hx hb dX0_signs_69 (by decide) ?_
    refine t_cVv (rest := []) C hI hf (tmT_findsSigned l N B _ _ _) (rv_main C hI) cqX0_T_findsSigned ⟨Nat.le_of_ble_eq_true rfl, Nat.le_of_ble_eq_true rfl⟩ rfl hl.1 rfl (Nat.le_of_ble_eq_true rfl) dX0_signs_70 (fun x1 H locs hI hf => ?_)
    refine lv_iload_n hx hb dX0_signs_73 rfl (lv_at hl 1 rfl) ?_
    refine lv_iconst (v := 1) hx hb dX0_signs_74 (by decide) ?_
    refine b_icne (tgt := 83) hx hb hf dX0_signs_75 (by decide) (fun hf => ?_) (fun hf => ?_)
    · refine lv_aload_n hx hb dX0_signs_83 rfl (lv_at hl 0 rfl) ?_
      refine tgX0_169 C hI dX0_signs_84 ?_
      refine lv_iconst (v := 1) hx hb dX0_signs_87 (by decide) ?_
      refine lv_aload_n hx hb dX0_signs_88 rfl (lv_at hl 0 rfl) ?_
      refine tgX0_346 C hI dX0_signs_89 ?_
      refine lv_ishl hx hb dX0_signs_92 ?_
      refine lv_iconst (v := 1) hx hb dX0_signs_93 (by decide) ?_
      refine lv_isub hx hb dX0_signs_94 ?_
      refine ta28 C hI hf dX0_signs_95 (fun v2 hf => ?_)
      refine lv_istore_n (lv' := [(2, .int v2), (0, .ref (wa w 37)), (1, .int l1)]) hx hb dX0_signs_96 rfl hl (by decide) rfl (fun ls hl => ?_)
      refine lv_iload_n hx hb dX0_signs_97 rfl (lv_at hl 0 rfl) ?_
      refine lv_ldcw hx hb hown (hts _ q1286) dX0_signs_98 ?_
      refine b_iclt (tgt := 108) hx hb hf dX0_signs_101 (by decide) (fun hf => ?_) (fun hf => ?_)
      · refine lv_iload_n hx hb dX0_signs_108 rfl (lv_at hl 2 rfl) ?_
        refine b_ifne (tgt := 116) hx hb hf dX0_signs_109 (by decide) (fun hf => ?_) (fun hf => ?_)
        · refine lv_aload_n hx hb dX0_signs_116 rfl (lv_at hl 1 rfl) ?_
          refine lv_iload_n hx hb dX0_signs_117 rfl (lv_at hl 2 rfl) ?_
          refine lv_bipush (v := 10) hx hb dX0_signs_118 (by decide) ?_
          refine lv_isub hx hb dX0_signs_120 ?_
          refine lv_iload_n hx hb dX0_signs_121 rfl (lv_at hl 0 rfl) ?_
          refine t_cVi (rest := []) C hI hf (tmT_signerAt l N B _ _ _) (rv_main C hI) cqX0_T_signerAt ⟨Nat.le_of_ble_eq_true rfl, Nat.le_of_ble_eq_true rfl⟩ rfl hl.1 rfl (Nat.le_of_ble_eq_true rfl) dX0_signs_122 (fun v4 x3 H locs hI hf => ?_)
          exact t_iret C hI hf dX0_signs_125
        · refine lv_iload_n hx hb dX0_signs_112 rfl (lv_at hl 0 rfl) ?_
          refine lv_goto (tgt := 125) hx hb dX0_signs_113 (by decide) ?_
          exact t_iret C hI hf dX0_signs_125
      · refine lv_iconst (v := (-1)) hx hb dX0_signs_104 (by decide) ?_
        refine lv_goto (tgt := 125) hx hb dX0_signs_105 (by decide) ?_
        exact t_iret C hI hf dX0_signs_125
    · refine lv_aload_n hx hb dX0_signs_78 rfl (lv_at hl 0 rfl) ?_
      refine t_cVi (rest := []) C hI hf (tmT_mostSigned l N B _) (rv_main C hI) cqX0_T_mostSigned ⟨Nat.le_of_ble_eq_true rfl, Nat.le_of_ble_eq_true rfl⟩ rfl hl.1 rfl (Nat.le_of_ble_eq_true rfl) dX0_signs_79 (fun v6 x5 H locs hI hf => ?_)
      exact t_iret C hI hf dX0_signs_82
  · refine lv_aload_n hx hb dX0_signs_37 rfl (lv_at hl 0 rfl) ?_
    refine tgX0_172 C hI dX0_signs_38 ?_
    refine lv_iload_n hx hb dX0_signs_41 rfl (lv_at hl 2 rfl) ?_
    refine lv_aload_n hx hb dX0_signs_42 rfl (lv_at hl 0 rfl) ?_
    refine lv_iload_n hx hb dX0_signs_43 rfl (lv_at hl 2 rfl) ?_
    refine lv_iconst (v := 0) hx hb dX0_signs_44 (by decide) ?_
    refine t_cVi (rest := [.int l2, .ref (wa w 29)]) C hI hf (tmT_phoneOf l N B _ _ _) (rv_main C hI) cqX0_T_phoneOf ⟨Nat.le_of_ble_eq_true rfl, Nat.le_of_ble_eq_true rfl⟩ rfl hl.1 rfl (Nat.le_of_ble_eq_true rfl) dX0_signs_45 (fun v8 x7 H locs hI hf => ?_)
    refine ts29 C hI hf dX0_signs_48 (fun x9 H locs hI hf => ?_)
    refine lv_aload_n hx hb dX0_signs_49 rfl (lv_at hl 0 rfl) ?_
    refine tgX0_175 C hI dX0_signs_50 ?_
    refine lv_iload_n hx hb dX0_signs_53 rfl (lv_at hl 2 rfl) ?_
    refine lv_aload_n hx hb dX0_signs_54 rfl (lv_at hl 0 rfl) ?_
    refine lv_iload_n hx hb dX0_signs_55 rfl (lv_at hl 2 rfl) ?_
    refine lv_iconst (v := 1) hx hb dX0_signs_56 (by decide) ?_
    refine t_cVi (rest := [.int l2, .ref (wa w 30)]) C hI hf (tmT_phoneOf l N B _ _ _) (rv_main C hI) cqX0_T_phoneOf ⟨Nat.le_of_ble_eq_true rfl, Nat.le_of_ble_eq_true rfl⟩ rfl hl.1 rfl (Nat.le_of_ble_eq_true rfl) dX0_signs_57 (fun v11 x10 H locs hI hf => ?_)
    refine ts30 C hI hf dX0_signs_60 (fun x12 H locs hI hf => ?_)
    refine lv_iinc (v := l2 + 1) (lv' := [(2, .int (l2 + 1)), (0, .ref (wa w 37)), (1, .int l1)]) hx hb dX0_signs_61 hl (k := 2) rfl rfl (by decide) rfl (fun ls hl => ?_)
    refine lv_goto (tgt := 29) hx hb dX0_signs_64 (by decide) ?_
    exact ih x12 l1 (l2 + 1) _ _ _ hI (lv_sub hl [1, 2, 0] rfl) hf
def fT_signs (N : Nat) (B : Nat × Nat) (x : TS) (l1 : Int32) : Option (Int32 × TS) :=
  (fT_isIn N l1 0 1).bind fun v1 =>
  if v1 = 0 then
    (fT_isIn N l1 10 (9 + (tS x 21))).bind fun v2 =>
    if v2 = 0 then
      some ((-1), x)
    else
      fT_signs_b29 N B N x l1 0
  else
    fT_signs_b29 N B N x l1 0
theorem tmT_signs (l : Launch) (N : Nat) {w : tO} {A : Nat → Prop} (B : Nat × Nat) : ∀ (x : TS) (l1 : Int32) (r : Int32) (xr : TS), fT_signs N B x l1 = some (r, xr) → tMet l yX0_signs (ws_ yX0_signs cX0_signs 3 (some .int)) frT_signs loT_signs [.ref (wa w 37), .int l1] w A B x (some (.int r)) xr := by
  intro x l1 r xr hf
  refine t_start (cc := cX0_signs) (own := RX0) (by decide +kernel) rfl (Nat.le_of_ble_eq_true rfl) rfl ?_
  intro p e s m args below meth c ls H locs C hmn hI hl
  have hx := C.1.1
  have hb := C.1.2.1
  have hown := C.1.2.2.2.1
  have hts := C.1.2.2.2.2.1
  have hE := C.2.2
  rw [fT_signs] at hf
  refine lv_iload_n hx hb dX0_signs_0 rfl (lv_at hl 1 rfl) ?_
  refine lv_iconst (v := 0) hx hb dX0_signs_1 (by decide) ?_
  refine lv_iconst (v := 1) hx hb dX0_signs_2 (by decide) ?_
  refine g_calliS (rest := []) C.1 hf (smT_isIn l N _ _ _) cqT_T_isIn ⟨rfl, rfl⟩ ⟨Nat.le_of_ble_eq_true rfl, Nat.le_of_ble_eq_true rfl⟩ rfl hl.1 rfl (Nat.le_of_ble_eq_true rfl) (t_room hI) dX0_signs_3 (fun v1 hf => ?_)
  refine b_ifne (tgt := 27) hx hb hf dX0_signs_6 (by decide) (fun hf => ?_) (fun hf => ?_)
  · refine lv_iconst (v := 0) hx hb dX0_signs_27 (by decide) ?_
    refine lv_istore_n (lv' := [(2, .int 0), (0, .ref (wa w 37)), (1, .int l1)]) hx hb dX0_signs_28 rfl hl (by decide) rfl (fun ls hl => ?_)
    exact w_fT_signs_b29 C N x l1 0 _ _ _ hI (lv_sub hl [1, 2, 0] rfl) hf
  · refine lv_iload_n hx hb dX0_signs_9 rfl (lv_at hl 1 rfl) ?_
    refine lv_bipush (v := 10) hx hb dX0_signs_10 (by decide) ?_
    refine lv_bipush (v := 9) hx hb dX0_signs_12 (by decide) ?_
    refine lv_aload_n hx hb dX0_signs_14 rfl (lv_at hl 0 rfl) ?_
    refine tgX0_346 C hI dX0_signs_15 ?_
    refine lv_iadd hx hb dX0_signs_18 ?_
    refine g_calliS (rest := []) C.1 hf (smT_isIn l N _ _ _) cqT_T_isIn ⟨rfl, rfl⟩ ⟨Nat.le_of_ble_eq_true rfl, Nat.le_of_ble_eq_true rfl⟩ rfl hl.1 rfl (Nat.le_of_ble_eq_true rfl) (t_room hI) dX0_signs_19 (fun v2 hf => ?_)
    refine b_ifne (tgt := 27) hx hb hf dX0_signs_22 (by decide) (fun hf => ?_) (fun hf => ?_)
    · refine lv_iconst (v := 0) hx hb dX0_signs_27 (by decide) ?_
      refine lv_istore_n (lv' := [(2, .int 0), (0, .ref (wa w 37)), (1, .int l1)]) hx hb dX0_signs_28 rfl hl (by decide) rfl (fun ls hl => ?_)
      exact w_fT_signs_b29 C N x l1 0 _ _ _ hI (lv_sub hl [1, 2, 0] rfl) hf
    · refine lv_iconst (v := (-1)) hx hb dX0_signs_25 (by decide) ?_
      exact t_iret C hI hf dX0_signs_26
/-! TwelveChain.money(II)I -/
abbrev frT_money : Nat := 1
abbrev loT_money : Nat := 22
def fT_money_b32 (N : Nat) (B : Nat × Nat) : Nat → TS → Int32 → Int32 → Int32 → Int32 → Option (Int32 × TS)
  | 0, _, _, _, _, _ => none
  | n + 1, x, l2, l3, l4, l5 =>
  if (tS x 21) ≤ l5 then
    some (l4, x)
  else
    (rd 12 (tC x 0 3) l5).bind fun v1 =>
    lt (if l2 < (l3 + (10 + v1)) then l4 else l5 : Int32) fun v2 =>
    fT_money_b32 N B n x l2 (l3 + (10 + v1)) v2 (l5 + 1)
theorem w_fT_money_b32 {N : Nat} {B : Nat × Nat} {r : Int32} {xr : TS} (C : tCx w A p s m args meth c cX0_money 6 RX0 (some .int)) : ∀ (n : Nat) (x : TS) (l2 : Int32) (l3 : Int32) (l4 : Int32) (l5 : Int32) (H : Heap) (locs : List Loc) (ls : Array Slot), tI w A B x s.heap H locs → lv_has ls 6 [(0, .ref (wa w 37)), (2, .int l2), (3, .int l3), (4, .int l4), (5, .int l5)] → fT_money_b32 N B n x l2 l3 l4 l5 = some (r, xr) → W p l e (tRm B frT_money loT_money s.heap.size (SL s.heap)) s m args below meth c H locs (tZ x - s.heap.size) (tY x - SL s.heap) (MQ below (tQ w A B (some (.int r)) xr) args s (B.1 - s.heap.size) (B.2 - SL s.heap) A) (F0 m 32 ls []) := by
  have hx := C.1.1
  have hb := C.1.2.1
  have hown := C.1.2.2.2.1
  have hts := C.1.2.2.2.2.1
  have hE := C.2.2
  intro n
  induction n with
  | zero => intro x l2 l3 l4 l5 H locs ls hI hl hf; rw [fT_money_b32] at hf; cases hf
  | succ n ih =>
  intro x l2 l3 l4 l5 H locs ls hI hl hf
  rw [fT_money_b32] at hf
  refine lv_iload hx hb dX0_money_32 (lv_at hl 4 rfl) ?_
  refine lv_aload_n hx hb dX0_money_34 rfl (lv_at hl 0 rfl) ?_
  refine tgX0_346 C hI dX0_money_35 ?_
  refine b_icge (tgt := 77) hx hb hf dX0_money_38 (by decide) (fun hf => ?_) (fun hf => ?_)
  · refine lv_iload hx hb dX0_money_77 (lv_at hl 3 rfl) ?_
    exact t_iret C hI hf dX0_money_79
  · refine lv_iload_n hx hb dX0_money_41 rfl (lv_at hl 2 rfl) ?_
    refine lv_bipush (v := 10) hx hb dX0_money_42 (by decide) ?_
    refine lv_aload_n hx hb dX0_money_44 rfl (lv_at hl 0 rfl) ?_
    refine tgX0_152 C hI dX0_money_45 ?_
    refine tgX0_410 C hI (tI.l3 hI (by decide)) dX0_money_48 ?_
    refine lv_iload hx hb dX0_money_51 (lv_at hl 4 rfl) ?_
    refine t_cald C hI (tI.l3 hI (by decide)) (by decide) hf dX0_money_53 (fun v1 hf => ?_)
    refine lv_iadd hx hb dX0_money_54 ?_
    refine lv_iadd hx hb dX0_money_55 ?_
    refine lv_istore_n (lv' := [(3, .int (l3 + (10 + v1))), (0, .ref (wa w 37)), (2, .int l2), (4, .int l4), (5, .int l5)]) hx hb dX0_money_56 rfl hl (by decide) rfl (fun ls hl => ?_)
    refine lv_iload_n hx hb dX0_money_57 rfl (lv_at hl 0 rfl) ?_
    refine lv_iload_n hx hb dX0_money_58 rfl (lv_at hl 2 rfl) ?_
    suffices hJ : ∀ v2 : Int32, (v2 = (if l2 < (l3 + (10 + v1)) then l4 else l5 : Int32)) → W p l e (tRm B frT_money loT_money s.heap.size (SL s.heap)) s m args below meth c H locs (tZ x - s.heap.size) (tY x - SL s.heap) (MQ below (tQ w A B (some (.int r)) xr) args s (B.1 - s.heap.size) (B.2 - SL s.heap) A) (F0 m 69 ls [.int v2]) by
      refine lv_icmp_gt (tgt := 67) hx hb dX0_money_59 (by decide) (fun hc => ?_) (fun hc => ?_)
      · refine lv_iload hx hb dX0_money_67 (lv_at hl 3 rfl) ?_
        exact hJ _ (if_pos hc).symm
      · refine lv_iload hx hb dX0_money_62 (lv_at hl 4 rfl) ?_
        refine lv_goto (tgt := 69) hx hb dX0_money_64 (by decide) ?_
        exact hJ _ (if_neg hc).symm
    intro v2 hv
    have hf := lt_of hv hf
    refine lv_istore (lv' := [(4, .int v2), (3, .int (l3 + (10 + v1))), (0, .ref (wa w 37)), (2, .int l2), (5, .int l5)]) hx hb dX0_money_69 hl (by decide) rfl (fun ls hl => ?_)
    refine lv_iinc (v := l5 + 1) (lv' := [(5, .int (l5 + 1)), (4, .int v2), (3, .int (l3 + (10 + v1))), (0, .ref (wa w 37)), (2, .int l2)]) hx hb dX0_money_71 hl (k := 4) rfl rfl (by decide) rfl (fun ls hl => ?_)
    refine lv_goto (tgt := 32) hx hb dX0_money_74 (by decide) ?_
    exact ih x l2 (l3 + (10 + v1)) v2 (l5 + 1) _ _ _ hI (lv_sub hl [3, 4, 2, 1, 0] rfl) hf
def fT_money (N : Nat) (B : Nat × Nat) (x : TS) (l1 : Int32) (l2 : Int32) : Option (Int32 × TS) :=
  (fT_isIn N l1 0 600).bind fun v1 =>
  if v1 = 0 then
    some ((-1), x)
  else
    (fT_isIn N l2 0 600).bind fun v2 =>
    if v2 = 0 then
      some ((-1), x)
    else
      fT_money_b32 N B N x l2 l1 (-1) 0
theorem tmT_money (l : Launch) (N : Nat) {w : tO} {A : Nat → Prop} (B : Nat × Nat) : ∀ (x : TS) (l1 : Int32) (l2 : Int32) (r : Int32) (xr : TS), fT_money N B x l1 l2 = some (r, xr) → tMet l yX0_money (ws_ yX0_money cX0_money 6 (some .int)) frT_money loT_money [.ref (wa w 37), .int l1, .int l2] w A B x (some (.int r)) xr := by
  intro x l1 l2 r xr hf
  refine t_start (cc := cX0_money) (own := RX0) (by decide +kernel) rfl (Nat.le_of_ble_eq_true rfl) rfl ?_
  intro p e s m args below meth c ls H locs C hmn hI hl
  have hx := C.1.1
  have hb := C.1.2.1
  have hown := C.1.2.2.2.1
  have hts := C.1.2.2.2.2.1
  have hE := C.2.2
  rw [fT_money] at hf
  refine lv_iload_n hx hb dX0_money_0 rfl (lv_at hl 1 rfl) ?_
  refine lv_iconst (v := 0) hx hb dX0_money_1 (by decide) ?_
  refine lv_sipush (v := 600) hx hb dX0_money_2 (by decide) ?_
  refine g_calliS (rest := []) C.1 hf (smT_isIn l N _ _ _) cqT_T_isIn ⟨rfl, rfl⟩ ⟨Nat.le_of_ble_eq_true rfl, Nat.le_of_ble_eq_true rfl⟩ rfl hl.1 rfl (Nat.le_of_ble_eq_true rfl) (t_room hI) dX0_money_5 (fun v1 hf => ?_)
  refine b_ifeq (tgt := 22) hx hb hf dX0_money_8 (by decide) (fun hf => ?_) (fun hf => ?_)
  · refine lv_iconst (v := (-1)) hx hb dX0_money_22 (by decide) ?_
    exact t_iret C hI hf dX0_money_23
  · refine lv_iload_n hx hb dX0_money_11 rfl (lv_at hl 2 rfl) ?_
    refine lv_iconst (v := 0) hx hb dX0_money_12 (by decide) ?_
    refine lv_sipush (v := 600) hx hb dX0_money_13 (by decide) ?_
    refine g_calliS (rest := []) C.1 hf (smT_isIn l N _ _ _) cqT_T_isIn ⟨rfl, rfl⟩ ⟨Nat.le_of_ble_eq_true rfl, Nat.le_of_ble_eq_true rfl⟩ rfl hl.1 rfl (Nat.le_of_ble_eq_true rfl) (t_room hI) dX0_money_16 (fun v2 hf => ?_)
    refine b_ifne (tgt := 24) hx hb hf dX0_money_19 (by decide) (fun hf => ?_) (fun hf => ?_)
    · refine lv_iload_n hx hb dX0_money_24 rfl (lv_at hl 1 rfl) ?_
      refine lv_istore_n (lv' := [(3, .int l1), (0, .ref (wa w 37)), (1, .int l1), (2, .int l2)]) hx hb dX0_money_25 rfl hl (by decide) rfl (fun ls hl => ?_)
      refine lv_iconst (v := (-1)) hx hb dX0_money_26 (by decide) ?_
      refine lv_istore (lv' := [(4, .int (-1)), (3, .int l1), (0, .ref (wa w 37)), (1, .int l1), (2, .int l2)]) hx hb dX0_money_27 hl (by decide) rfl (fun ls hl => ?_)
      refine lv_iconst (v := 0) hx hb dX0_money_29 (by decide) ?_
      refine lv_istore (lv' := [(5, .int 0), (4, .int (-1)), (3, .int l1), (0, .ref (wa w 37)), (1, .int l1), (2, .int l2)]) hx hb dX0_money_30 hl (by decide) rfl (fun ls hl => ?_)
      exact w_fT_money_b32 C N x l2 l1 (-1) 0 _ _ _ hI (lv_sub hl [3, 5, 2, 1, 0] rfl) hf
    · refine lv_iconst (v := (-1)) hx hb dX0_money_22 (by decide) ?_
      exact t_iret C hI hf dX0_money_23
/-! TwelveChain.lambda$ill$2(III)Z -/
abbrev frT_lambda_ill_2 : Nat := 2
abbrev loT_lambda_ill_2 : Nat := 47
def fT_lambda_ill_2 (N : Nat) (B : Nat × Nat) (x : TS) (l1 : Int32) (l2 : Int32) (l3 : Int32) : Option (Int32 × TS) :=
  b2 (fT_recordsOf N B x l3 l1 ((l1 + l2) - 1)) fun v2 x1 =>
  lt (if v2 = 0 then 1 else 0 : Int32) fun v3 =>
  some (zb v3, x1)
theorem tmT_lambda_ill_2 (l : Launch) (N : Nat) {w : tO} {A : Nat → Prop} (B : Nat × Nat) : ∀ (x : TS) (l1 : Int32) (l2 : Int32) (l3 : Int32) (r : Int32) (xr : TS), fT_lambda_ill_2 N B x l1 l2 l3 = some (r, xr) → tMet l yX0_lambda_ill_2 (ws_ yX0_lambda_ill_2 cX0_lambda_ill_2 4 (some .boolean)) frT_lambda_ill_2 loT_lambda_ill_2 [.ref (wa w 37), .int l1, .int l2, .int l3] w A B x (some (.int r)) xr := by
  intro x l1 l2 l3 r xr hf
  refine t_start (cc := cX0_lambda_ill_2) (own := RX0) (by decide +kernel) rfl (Nat.le_of_ble_eq_true rfl) rfl ?_
  intro p e s m args below meth c ls H locs C hmn hI hl
  have hx := C.1.1
  have hb := C.1.2.1
  have hown := C.1.2.2.2.1
  have hts := C.1.2.2.2.2.1
  have hE := C.2.2
  rw [fT_lambda_ill_2] at hf
  refine lv_aload_n hx hb dX0_lambda_ill_2_0 rfl (lv_at hl 0 rfl) ?_
  refine lv_iload_n hx hb dX0_lambda_ill_2_1 rfl (lv_at hl 3 rfl) ?_
  refine lv_iload_n hx hb dX0_lambda_ill_2_2 rfl (lv_at hl 1 rfl) ?_
  refine lv_iload_n hx hb dX0_lambda_ill_2_3 rfl (lv_at hl 1 rfl) ?_
  refine lv_iload_n hx hb dX0_lambda_ill_2_4 rfl (lv_at hl 2 rfl) ?_
  refine lv_iadd hx hb dX0_lambda_ill_2_5 ?_
  refine lv_iconst (v := 1) hx hb dX0_lambda_ill_2_6 (by decide) ?_
  refine lv_isub hx hb dX0_lambda_ill_2_7 ?_
  refine t_cVi (rest := []) C hI hf (tmT_recordsOf l N B _ _ _ _) (rv_main C hI) cqX0_T_recordsOf ⟨Nat.le_of_ble_eq_true rfl, Nat.le_of_ble_eq_true rfl⟩ rfl hl.1 rfl (Nat.le_of_ble_eq_true rfl) dX0_lambda_ill_2_8 (fun v2 x1 H locs hI hf => ?_)
  suffices hJ : ∀ v3 : Int32, (v3 = (if v2 = 0 then 1 else 0 : Int32)) → W p l e (tRm B frT_lambda_ill_2 loT_lambda_ill_2 s.heap.size (SL s.heap)) s m args below meth c H locs (tZ x1 - s.heap.size) (tY x1 - SL s.heap) (MQ below (tQ w A B (some (.int r)) xr) args s (B.1 - s.heap.size) (B.2 - SL s.heap) A) (F0 m 19 ls [.int v3]) by
    refine lv_if_ne (tgt := 18) hx hb dX0_lambda_ill_2_11 (by decide) (fun hc => ?_) (fun hc => ?_)
    · refine lv_iconst (v := 0) hx hb dX0_lambda_ill_2_18 (by decide) ?_
      exact hJ _ (if_neg hc).symm
    · refine lv_iconst (v := 1) hx hb dX0_lambda_ill_2_14 (by decide) ?_
      refine lv_goto (tgt := 19) hx hb dX0_lambda_ill_2_15 (by decide) ?_
      exact hJ _ (if_pos hc).symm
  intro v3 hv
  have hf := lt_of hv hf
  exact t_zret C hI hf dX0_lambda_ill_2_19
/-! TwelveChain.greaterPart(I)I -/
abbrev frT_greaterPart : Nat := 2
abbrev loT_greaterPart : Nat := 47
def fT_greaterPart_b4 (N : Nat) (B : Nat × Nat) : Nat → TS → Int32 → Int32 → Int32 → Option (Int32 × TS)
  | 0, _, _, _, _ => none
  | n + 1, x, l1, l2, l3 =>
  if (tS x 21) ≤ l3 then
    (fJm_max N l2 ((tS x 21) - l2)).bind fun v1 =>
    some (v1, x)
  else
    b2 (fT_recordsOf N B x l3 0 l1) fun v3 x2 =>
    lt (if v3 ≤ 0 then 0 else 1 : Int32) fun v4 =>
    fT_greaterPart_b4 N B n x2 l1 (l2 + v4) (l3 + 1)
theorem w_fT_greaterPart_b4 {N : Nat} {B : Nat × Nat} {r : Int32} {xr : TS} (C : tCx w A p s m args meth c cX0_greaterPart 4 RX0 (some .int)) : ∀ (n : Nat) (x : TS) (l1 : Int32) (l2 : Int32) (l3 : Int32) (H : Heap) (locs : List Loc) (ls : Array Slot), tI w A B x s.heap H locs → lv_has ls 4 [(0, .ref (wa w 37)), (1, .int l1), (2, .int l2), (3, .int l3)] → fT_greaterPart_b4 N B n x l1 l2 l3 = some (r, xr) → W p l e (tRm B frT_greaterPart loT_greaterPart s.heap.size (SL s.heap)) s m args below meth c H locs (tZ x - s.heap.size) (tY x - SL s.heap) (MQ below (tQ w A B (some (.int r)) xr) args s (B.1 - s.heap.size) (B.2 - SL s.heap) A) (F0 m 4 ls []) := by
  have hx := C.1.1
  have hb := C.1.2.1
  have hown := C.1.2.2.2.1
  have hts := C.1.2.2.2.2.1
  have hE := C.2.2
  intro n
  induction n with
  | zero => intro x l1 l2 l3 H locs ls hI hl hf; rw [fT_greaterPart_b4] at hf; cases hf
  | succ n ih =>
  intro x l1 l2 l3 H locs ls hI hl hf
  rw [fT_greaterPart_b4] at hf
  refine lv_iload_n hx hb dX0_greaterPart_4 rfl (lv_at hl 3 rfl) ?_
  refine lv_aload_n hx hb dX0_greaterPart_5 rfl (lv_at hl 0 rfl) ?_
  refine tgX0_346 C hI dX0_greaterPart_6 ?_
  refine b_icge (tgt := 36) hx hb hf dX0_greaterPart_9 (by decide) (fun hf => ?_) (fun hf => ?_)
  · refine lv_iload_n hx hb dX0_greaterPart_36 rfl (lv_at hl 2 rfl) ?_
    refine lv_aload_n hx hb dX0_greaterPart_37 rfl (lv_at hl 0 rfl) ?_
    refine tgX0_346 C hI dX0_greaterPart_38 ?_
    refine lv_iload_n hx hb dX0_greaterPart_41 rfl (lv_at hl 2 rfl) ?_
    refine lv_isub hx hb dX0_greaterPart_42 ?_
    refine g_calliS (rest := []) C.1 hf (smJm_max l N _ _) cqT_Jm_max ⟨rfl, rfl⟩ ⟨Nat.le_of_ble_eq_true rfl, Nat.le_of_ble_eq_true rfl⟩ rfl hl.1 rfl (Nat.le_of_ble_eq_true rfl) (t_room hI) dX0_greaterPart_43 (fun v1 hf => ?_)
    exact t_iret C hI hf dX0_greaterPart_46
  · refine lv_iload_n hx hb dX0_greaterPart_12 rfl (lv_at hl 2 rfl) ?_
    refine lv_aload_n hx hb dX0_greaterPart_13 rfl (lv_at hl 0 rfl) ?_
    refine lv_iload_n hx hb dX0_greaterPart_14 rfl (lv_at hl 3 rfl) ?_
    refine lv_iconst (v := 0) hx hb dX0_greaterPart_15 (by decide) ?_
    refine lv_iload_n hx hb dX0_greaterPart_16 rfl (lv_at hl 1 rfl) ?_
    refine t_cVi (rest := [.int l2]) C hI hf (tmT_recordsOf l N B _ _ _ _) (rv_main C hI) cqX0_T_recordsOf ⟨Nat.le_of_ble_eq_true rfl, Nat.le_of_ble_eq_true rfl⟩ rfl hl.1 rfl (Nat.le_of_ble_eq_true rfl) dX0_greaterPart_17 (fun v3 x2 H locs hI hf => ?_)
    suffices hJ : ∀ v4 : Int32, (v4 = (if v3 ≤ 0 then 0 else 1 : Int32)) → W p l e (tRm B frT_greaterPart loT_greaterPart s.heap.size (SL s.heap)) s m args below meth c H locs (tZ x2 - s.heap.size) (tY x2 - SL s.heap) (MQ below (tQ w A B (some (.int r)) xr) args s (B.1 - s.heap.size) (B.2 - SL s.heap) A) (F0 m 28 ls [.int v4, .int l2]) by
      refine lv_if_le (tgt := 27) hx hb dX0_greaterPart_20 (by decide) (fun hc => ?_) (fun hc => ?_)
      · refine lv_iconst (v := 0) hx hb dX0_greaterPart_27 (by decide) ?_
        exact hJ _ (if_pos hc).symm
      · refine lv_iconst (v := 1) hx hb dX0_greaterPart_23 (by decide) ?_
        refine lv_goto (tgt := 28) hx hb dX0_greaterPart_24 (by decide) ?_
        exact hJ _ (if_neg hc).symm
    intro v4 hv
    have hf := lt_of hv hf
    refine lv_iadd hx hb dX0_greaterPart_28 ?_
    refine lv_istore_n (lv' := [(2, .int (l2 + v4)), (0, .ref (wa w 37)), (1, .int l1), (3, .int l3)]) hx hb dX0_greaterPart_29 rfl hl (by decide) rfl (fun ls hl => ?_)
    refine lv_iinc (v := l3 + 1) (lv' := [(3, .int (l3 + 1)), (2, .int (l2 + v4)), (0, .ref (wa w 37)), (1, .int l1)]) hx hb dX0_greaterPart_30 hl (k := 3) rfl rfl (by decide) rfl (fun ls hl => ?_)
    refine lv_goto (tgt := 4) hx hb dX0_greaterPart_33 (by decide) ?_
    exact ih x2 l1 (l2 + v4) (l3 + 1) _ _ _ hI (lv_sub hl [2, 3, 1, 0] rfl) hf
def fT_greaterPart (N : Nat) (B : Nat × Nat) (x : TS) (l1 : Int32) : Option (Int32 × TS) :=
  fT_greaterPart_b4 N B N x l1 0 0
theorem tmT_greaterPart (l : Launch) (N : Nat) {w : tO} {A : Nat → Prop} (B : Nat × Nat) : ∀ (x : TS) (l1 : Int32) (r : Int32) (xr : TS), fT_greaterPart N B x l1 = some (r, xr) → tMet l yX0_greaterPart (ws_ yX0_greaterPart cX0_greaterPart 4 (some .int)) frT_greaterPart loT_greaterPart [.ref (wa w 37), .int l1] w A B x (some (.int r)) xr := by
  intro x l1 r xr hf
  refine t_start (cc := cX0_greaterPart) (own := RX0) (by decide +kernel) rfl (Nat.le_of_ble_eq_true rfl) rfl ?_
  intro p e s m args below meth c ls H locs C hmn hI hl
  have hx := C.1.1
  have hb := C.1.2.1
  have hown := C.1.2.2.2.1
  have hts := C.1.2.2.2.2.1
  have hE := C.2.2
  rw [fT_greaterPart] at hf
  refine lv_iconst (v := 0) hx hb dX0_greaterPart_0 (by decide) ?_
  refine lv_istore_n (lv' := [(2, .int 0), (0, .ref (wa w 37)), (1, .int l1)]) hx hb dX0_greaterPart_1 rfl hl (by decide) rfl (fun ls hl => ?_)
  refine lv_iconst (v := 0) hx hb dX0_greaterPart_2 (by decide) ?_
  refine lv_istore_n (lv' := [(3, .int 0), (2, .int 0), (0, .ref (wa w 37)), (1, .int l1)]) hx hb dX0_greaterPart_3 rfl hl (by decide) rfl (fun ls hl => ?_)
  exact w_fT_greaterPart_b4 C N x l1 0 0 _ _ _ hI (lv_sub hl [2, 3, 1, 0] rfl) hf
/-! TwelveChain.lambda$wrote$3(I)I -/
abbrev frT_lambda_wrote_3 : Nat := 3
abbrev loT_lambda_wrote_3 : Nat := 70
def fT_lambda_wrote_3 (N : Nat) (B : Nat × Nat) (x : TS) (l1 : Int32) : Option (Int32 × TS) :=
  b2 (fT_greaterPart N B x l1) fun v2 x1 =>
  some (v2, x1)
theorem tmT_lambda_wrote_3 (l : Launch) (N : Nat) {w : tO} {A : Nat → Prop} (B : Nat × Nat) : ∀ (x : TS) (l1 : Int32) (r : Int32) (xr : TS), fT_lambda_wrote_3 N B x l1 = some (r, xr) → tMet l yX0_lambda_wrote_3 (ws_ yX0_lambda_wrote_3 cX0_lambda_wrote_3 2 (some .int)) frT_lambda_wrote_3 loT_lambda_wrote_3 [.ref (wa w 37), .int l1] w A B x (some (.int r)) xr := by
  intro x l1 r xr hf
  refine t_start (cc := cX0_lambda_wrote_3) (own := RX0) (by decide +kernel) rfl (Nat.le_of_ble_eq_true rfl) rfl ?_
  intro p e s m args below meth c ls H locs C hmn hI hl
  have hx := C.1.1
  have hb := C.1.2.1
  have hown := C.1.2.2.2.1
  have hts := C.1.2.2.2.2.1
  have hE := C.2.2
  rw [fT_lambda_wrote_3] at hf
  refine lv_aload_n hx hb dX0_lambda_wrote_3_0 rfl (lv_at hl 0 rfl) ?_
  refine lv_iload_n hx hb dX0_lambda_wrote_3_1 rfl (lv_at hl 1 rfl) ?_
  refine t_cVi (rest := []) C hI hf (tmT_greaterPart l N B _ _) (rv_main C hI) cqX0_T_greaterPart ⟨Nat.le_of_ble_eq_true rfl, Nat.le_of_ble_eq_true rfl⟩ rfl hl.1 rfl (Nat.le_of_ble_eq_true rfl) dX0_lambda_wrote_3_2 (fun v2 x1 H locs hI hf => ?_)
  exact t_iret C hI hf dX0_lambda_wrote_3_5
/-! TwelveChain.heapOf(I)I -/
abbrev frT_heapOf : Nat := 1
abbrev loT_heapOf : Nat := 21
def fT_heapOf (N : Nat) (B : Nat × Nat) (x : TS) (l1 : Int32) : Option (Int32 × TS) :=
  b2 (fC_isMoved N B x 0 l1) fun v2 x1 =>
  if v2 = 0 then
    (rd 12 (tC x1 0 3) l1).bind fun v3 =>
    some (v3, x1)
  else
    some (0, x1)
theorem tmT_heapOf (l : Launch) (N : Nat) {w : tO} {A : Nat → Prop} (B : Nat × Nat) : ∀ (x : TS) (l1 : Int32) (r : Int32) (xr : TS), fT_heapOf N B x l1 = some (r, xr) → tMet l yX0_heapOf (ws_ yX0_heapOf cX0_heapOf 2 (some .int)) frT_heapOf loT_heapOf [.ref (wa w 37), .int l1] w A B x (some (.int r)) xr := by
  intro x l1 r xr hf
  refine t_start (cc := cX0_heapOf) (own := RX0) (by decide +kernel) rfl (Nat.le_of_ble_eq_true rfl) rfl ?_
  intro p e s m args below meth c ls H locs C hmn hI hl
  have hx := C.1.1
  have hb := C.1.2.1
  have hown := C.1.2.2.2.1
  have hts := C.1.2.2.2.2.1
  have hE := C.2.2
  rw [fT_heapOf] at hf
  refine lv_aload_n hx hb dX0_heapOf_0 rfl (lv_at hl 0 rfl) ?_
  refine tgX0_152 C hI dX0_heapOf_1 ?_
  refine lv_iload_n hx hb dX0_heapOf_4 rfl (lv_at hl 1 rfl) ?_
  refine t_cVi (rest := []) C hI hf (tmC_isMoved l N B (tI.l3 hI (by decide)) _ _) (rv_chain C hI (tI.l3 hI (by decide))) cqX0_C_isMoved ⟨Nat.le_of_ble_eq_true rfl, Nat.le_of_ble_eq_true rfl⟩ rfl hl.1 rfl (Nat.le_of_ble_eq_true rfl) dX0_heapOf_5 (fun v2 x1 H locs hI hf => ?_)
  refine b_ifeq (tgt := 15) hx hb hf dX0_heapOf_8 (by decide) (fun hf => ?_) (fun hf => ?_)
  · refine lv_aload_n hx hb dX0_heapOf_15 rfl (lv_at hl 0 rfl) ?_
    refine tgX0_152 C hI dX0_heapOf_16 ?_
    refine tgX0_410 C hI (tI.l3 hI (by decide)) dX0_heapOf_19 ?_
    refine lv_iload_n hx hb dX0_heapOf_22 rfl (lv_at hl 1 rfl) ?_
    refine t_cald C hI (tI.l3 hI (by decide)) (by decide) hf dX0_heapOf_23 (fun v3 hf => ?_)
    exact t_iret C hI hf dX0_heapOf_24
  · refine lv_iconst (v := 0) hx hb dX0_heapOf_11 (by decide) ?_
    refine lv_goto (tgt := 24) hx hb dX0_heapOf_12 (by decide) ?_
    exact t_iret C hI hf dX0_heapOf_24
/-! TwelveChain.game(I)I -/
abbrev frT_game : Nat := 2
abbrev loT_game : Nat := 42
def fT_game_b52 (N : Nat) (B : Nat × Nat) (k41 : TS → Int32 → Int32 → Int32 → Option (Int32 × TS)) : Nat → TS → Int32 → Int32 → Int32 → Int32 → Option (Int32 × TS)
  | 0, _, _, _, _, _ => none
  | n + 1, x, l1, l2, l3, l4 =>
  b2 (fT_heapOf N B x l3) fun v2 x1 =>
  (fJm_min N 3 v2).bind fun v3 =>
  if v3 < l4 then
    k41 x1 l1 l2 (l3 + 1)
  else
    b2 (fT_heapOf N B x1 l3) fun v5 x4 =>
    (rm_ v5 4).bind fun v6 =>
    b2 (fT_heapOf N B x4 l3) fun v8 x7 =>
    (rm_ (v8 - l4) 4).bind fun v9 =>
    if ((l2 ^^^ v6) ^^^ v9) = 0 then
      lt (if l1 = 0 then l3 else l4 : Int32) fun v10 =>
      some (v10, x7)
    else
      fT_game_b52 N B k41 n x7 l1 l2 l3 (l4 + 1)
theorem w_fT_game_b52 {N : Nat} {B : Nat × Nat} {r : Int32} {xr : TS} {k41 : TS → Int32 → Int32 → Int32 → Option (Int32 × TS)} (C : tCx w A p s m args meth c cX0_game 5 RX0 (some .int)) (hk41 : ∀ (x : TS) (l1 : Int32) (l2 : Int32) (l3 : Int32) (H : Heap) (locs : List Loc) (ls : Array Slot), tI w A B x s.heap H locs → lv_has ls 5 [(0, .ref (wa w 37)), (1, .int l1), (2, .int l2), (3, .int l3)] → k41 x l1 l2 l3 = some (r, xr) → W p l e (tRm B frT_game loT_game s.heap.size (SL s.heap)) s m args below meth c H locs (tZ x - s.heap.size) (tY x - SL s.heap) (MQ below (tQ w A B (some (.int r)) xr) args s (B.1 - s.heap.size) (B.2 - SL s.heap) A) (F0 m 41 ls [])) : ∀ (n : Nat) (x : TS) (l1 : Int32) (l2 : Int32) (l3 : Int32) (l4 : Int32) (H : Heap) (locs : List Loc) (ls : Array Slot), tI w A B x s.heap H locs → lv_has ls 5 [(0, .ref (wa w 37)), (1, .int l1), (2, .int l2), (3, .int l3), (4, .int l4)] → fT_game_b52 N B k41 n x l1 l2 l3 l4 = some (r, xr) → W p l e (tRm B frT_game loT_game s.heap.size (SL s.heap)) s m args below meth c H locs (tZ x - s.heap.size) (tY x - SL s.heap) (MQ below (tQ w A B (some (.int r)) xr) args s (B.1 - s.heap.size) (B.2 - SL s.heap) A) (F0 m 52 ls []) := by
  have hx := C.1.1
  have hb := C.1.2.1
  have hown := C.1.2.2.2.1
  have hts := C.1.2.2.2.2.1
  have hE := C.2.2
  intro n
  induction n with
  | zero => intro x l1 l2 l3 l4 H locs ls hI hl hf; rw [fT_game_b52] at hf; cases hf
  | succ n ih =>
  intro x l1 l2 l3 l4 H locs ls hI hl hf
  rw [fT_game_b52] at hf
  refine lv_iload hx hb dX0_game_52 (lv_at hl 4 rfl) ?_
  refine lv_iconst (v := 3) hx hb dX0_game_54 (by decide) ?_
  refine lv_aload_n hx hb dX0_game_55 rfl (lv_at hl 0 rfl) ?_
  refine lv_iload_n hx hb dX0_game_56 rfl (lv_at hl 3 rfl) ?_
  refine t_cVi (rest := [.int 3, .int l4]) C hI hf (tmT_heapOf l N B _ _) (rv_main C hI) cqX0_T_heapOf ⟨Nat.le_of_ble_eq_true rfl, Nat.le_of_ble_eq_true rfl⟩ rfl hl.1 rfl (Nat.le_of_ble_eq_true rfl) dX0_game_57 (fun v2 x1 H locs hI hf => ?_)
  refine g_calliS (rest := [.int l4]) C.1 hf (smJm_min l N _ _) cqT_Jm_min ⟨rfl, rfl⟩ ⟨Nat.le_of_ble_eq_true rfl, Nat.le_of_ble_eq_true rfl⟩ rfl hl.1 rfl (Nat.le_of_ble_eq_true rfl) (t_room hI) dX0_game_60 (fun v3 hf => ?_)
  refine b_icgt (tgt := 106) hx hb hf dX0_game_63 (by decide) (fun hf => ?_) (fun hf => ?_)
  · refine lv_iinc (v := l3 + 1) (lv' := [(3, .int (l3 + 1)), (0, .ref (wa w 37)), (1, .int l1), (2, .int l2), (4, .int l4)]) hx hb dX0_game_106 hl (k := 3) rfl rfl (by decide) rfl (fun ls hl => ?_)
    refine lv_goto (tgt := 41) hx hb dX0_game_109 (by decide) ?_
    exact hk41 x1 l1 l2 (l3 + 1) _ _ _ hI (lv_sub hl [1, 2, 3, 0] rfl) hf
  · refine lv_iload_n hx hb dX0_game_66 rfl (lv_at hl 2 rfl) ?_
    refine lv_aload_n hx hb dX0_game_67 rfl (lv_at hl 0 rfl) ?_
    refine lv_iload_n hx hb dX0_game_68 rfl (lv_at hl 3 rfl) ?_
    refine t_cVi (rest := [.int l2]) C hI hf (tmT_heapOf l N B _ _) (rv_main C hI) cqX0_T_heapOf ⟨Nat.le_of_ble_eq_true rfl, Nat.le_of_ble_eq_true rfl⟩ rfl hl.1 rfl (Nat.le_of_ble_eq_true rfl) dX0_game_69 (fun v5 x4 H locs hI hf => ?_)
    refine lv_iconst (v := 4) hx hb dX0_game_72 (by decide) ?_
    refine b_irem hx hb hf dX0_game_73 (fun v6 hf => ?_)
    refine lv_ixor hx hb dX0_game_74 ?_
    refine lv_aload_n hx hb dX0_game_75 rfl (lv_at hl 0 rfl) ?_
    refine lv_iload_n hx hb dX0_game_76 rfl (lv_at hl 3 rfl) ?_
    refine t_cVi (rest := [.int (l2 ^^^ v6)]) C hI hf (tmT_heapOf l N B _ _) (rv_main C hI) cqX0_T_heapOf ⟨Nat.le_of_ble_eq_true rfl, Nat.le_of_ble_eq_true rfl⟩ rfl hl.1 rfl (Nat.le_of_ble_eq_true rfl) dX0_game_77 (fun v8 x7 H locs hI hf => ?_)
    refine lv_iload hx hb dX0_game_80 (lv_at hl 4 rfl) ?_
    refine lv_isub hx hb dX0_game_82 ?_
    refine lv_iconst (v := 4) hx hb dX0_game_83 (by decide) ?_
    refine b_irem hx hb hf dX0_game_84 (fun v9 hf => ?_)
    refine lv_ixor hx hb dX0_game_85 ?_
    refine b_ifne (tgt := 100) hx hb hf dX0_game_86 (by decide) (fun hf => ?_) (fun hf => ?_)
    · refine lv_iinc (v := l4 + 1) (lv' := [(4, .int (l4 + 1)), (0, .ref (wa w 37)), (1, .int l1), (2, .int l2), (3, .int l3)]) hx hb dX0_game_100 hl (k := 4) rfl rfl (by decide) rfl (fun ls hl => ?_)
      refine lv_goto (tgt := 52) hx hb dX0_game_103 (by decide) ?_
      exact ih x7 l1 l2 l3 (l4 + 1) _ _ _ hI (lv_sub hl [1, 2, 3, 4, 0] rfl) hf
    · refine lv_iload_n hx hb dX0_game_89 rfl (lv_at hl 1 rfl) ?_
      suffices hJ : ∀ v10 : Int32, (v10 = (if l1 = 0 then l3 else l4 : Int32)) → W p l e (tRm B frT_game loT_game s.heap.size (SL s.heap)) s m args below meth c H locs (tZ x7 - s.heap.size) (tY x7 - SL s.heap) (MQ below (tQ w A B (some (.int r)) xr) args s (B.1 - s.heap.size) (B.2 - SL s.heap) A) (F0 m 99 ls [.int v10]) by
        refine lv_if_ne (tgt := 97) hx hb dX0_game_90 (by decide) (fun hc => ?_) (fun hc => ?_)
        · refine lv_iload hx hb dX0_game_97 (lv_at hl 4 rfl) ?_
          exact hJ _ (if_neg hc).symm
        · refine lv_iload_n hx hb dX0_game_93 rfl (lv_at hl 3 rfl) ?_
          refine lv_goto (tgt := 99) hx hb dX0_game_94 (by decide) ?_
          exact hJ _ (if_pos hc).symm
      intro v10 hv
      have hf := lt_of hv hf
      exact t_iret C hI hf dX0_game_99
def fT_game_b41 (N : Nat) (B : Nat × Nat) : Nat → TS → Int32 → Int32 → Int32 → Option (Int32 × TS)
  | 0, _, _, _, _ => none
  | n + 1, x, l1, l2, l3 =>
  if (tS x 21) ≤ l3 then
    some ((-1), x)
  else
    fT_game_b52 N B (fT_game_b41 N B n) N x l1 l2 l3 1
theorem w_fT_game_b41 {N : Nat} {B : Nat × Nat} {r : Int32} {xr : TS} (C : tCx w A p s m args meth c cX0_game 5 RX0 (some .int)) : ∀ (n : Nat) (x : TS) (l1 : Int32) (l2 : Int32) (l3 : Int32) (H : Heap) (locs : List Loc) (ls : Array Slot), tI w A B x s.heap H locs → lv_has ls 5 [(0, .ref (wa w 37)), (1, .int l1), (2, .int l2), (3, .int l3)] → fT_game_b41 N B n x l1 l2 l3 = some (r, xr) → W p l e (tRm B frT_game loT_game s.heap.size (SL s.heap)) s m args below meth c H locs (tZ x - s.heap.size) (tY x - SL s.heap) (MQ below (tQ w A B (some (.int r)) xr) args s (B.1 - s.heap.size) (B.2 - SL s.heap) A) (F0 m 41 ls []) := by
  have hx := C.1.1
  have hb := C.1.2.1
  have hown := C.1.2.2.2.1
  have hts := C.1.2.2.2.2.1
  have hE := C.2.2
  intro n
  induction n with
  | zero => intro x l1 l2 l3 H locs ls hI hl hf; rw [fT_game_b41] at hf; cases hf
  | succ n ih =>
  intro x l1 l2 l3 H locs ls hI hl hf
  rw [fT_game_b41] at hf
  refine lv_iload_n hx hb dX0_game_41 rfl (lv_at hl 3 rfl) ?_
  refine lv_aload_n hx hb dX0_game_42 rfl (lv_at hl 0 rfl) ?_
  refine tgX0_346 C hI dX0_game_43 ?_
  refine b_icge (tgt := 112) hx hb hf dX0_game_46 (by decide) (fun hf => ?_) (fun hf => ?_)
  · refine lv_iconst (v := (-1)) hx hb dX0_game_112 (by decide) ?_
    exact t_iret C hI hf dX0_game_113
  · refine lv_iconst (v := 1) hx hb dX0_game_49 (by decide) ?_
    refine lv_istore (lv' := [(4, .int 1), (0, .ref (wa w 37)), (1, .int l1), (2, .int l2), (3, .int l3)]) hx hb dX0_game_50 hl (by decide) rfl (fun ls hl => ?_)
    exact w_fT_game_b52 C ih N x l1 l2 l3 1 _ _ _ hI (lv_sub hl [1, 2, 3, 4, 0] rfl) hf
def fT_game_b15 (N : Nat) (B : Nat × Nat) : Nat → TS → Int32 → Int32 → Int32 → Option (Int32 × TS)
  | 0, _, _, _, _ => none
  | n + 1, x, l1, l2, l3 =>
  if (tS x 21) ≤ l3 then
    fT_game_b41 N B N x l1 l2 0
  else
    b2 (fT_heapOf N B x l3) fun v2 x1 =>
    (rm_ v2 4).bind fun v3 =>
    fT_game_b15 N B n x1 l1 (l2 ^^^ v3) (l3 + 1)
theorem w_fT_game_b15 {N : Nat} {B : Nat × Nat} {r : Int32} {xr : TS} (C : tCx w A p s m args meth c cX0_game 5 RX0 (some .int)) : ∀ (n : Nat) (x : TS) (l1 : Int32) (l2 : Int32) (l3 : Int32) (H : Heap) (locs : List Loc) (ls : Array Slot), tI w A B x s.heap H locs → lv_has ls 5 [(0, .ref (wa w 37)), (1, .int l1), (2, .int l2), (3, .int l3)] → fT_game_b15 N B n x l1 l2 l3 = some (r, xr) → W p l e (tRm B frT_game loT_game s.heap.size (SL s.heap)) s m args below meth c H locs (tZ x - s.heap.size) (tY x - SL s.heap) (MQ below (tQ w A B (some (.int r)) xr) args s (B.1 - s.heap.size) (B.2 - SL s.heap) A) (F0 m 15 ls []) := by
  have hx := C.1.1
  have hb := C.1.2.1
  have hown := C.1.2.2.2.1
  have hts := C.1.2.2.2.2.1
  have hE := C.2.2
  intro n
  induction n with
  | zero => intro x l1 l2 l3 H locs ls hI hl hf; rw [fT_game_b15] at hf; cases hf
  | succ n ih =>
  intro x l1 l2 l3 H locs ls hI hl hf
  rw [fT_game_b15] at hf
  refine lv_iload_n hx hb dX0_game_15 rfl (lv_at hl 3 rfl) ?_
  refine lv_aload_n hx hb dX0_game_16 rfl (lv_at hl 0 rfl) ?_
  refine tgX0_346 C hI dX0_game_17 ?_
  refine b_icge (tgt := 39) hx hb hf dX0_game_20 (by decide) (fun hf => ?_) (fun hf => ?_)
  · refine lv_iconst (v := 0) hx hb dX0_game_39 (by decide) ?_
    refine lv_istore_n (lv' := [(3, .int 0), (0, .ref (wa w 37)), (1, .int l1), (2, .int l2)]) hx hb dX0_game_40 rfl hl (by decide) rfl (fun ls hl => ?_)
    exact w_fT_game_b41 C N x l1 l2 0 _ _ _ hI (lv_sub hl [1, 2, 3, 0] rfl) hf
  · refine lv_iload_n hx hb dX0_game_23 rfl (lv_at hl 2 rfl) ?_
    refine lv_aload_n hx hb dX0_game_24 rfl (lv_at hl 0 rfl) ?_
    refine lv_iload_n hx hb dX0_game_25 rfl (lv_at hl 3 rfl) ?_
    refine t_cVi (rest := [.int l2]) C hI hf (tmT_heapOf l N B _ _) (rv_main C hI) cqX0_T_heapOf ⟨Nat.le_of_ble_eq_true rfl, Nat.le_of_ble_eq_true rfl⟩ rfl hl.1 rfl (Nat.le_of_ble_eq_true rfl) dX0_game_26 (fun v2 x1 H locs hI hf => ?_)
    refine lv_iconst (v := 4) hx hb dX0_game_29 (by decide) ?_
    refine b_irem hx hb hf dX0_game_30 (fun v3 hf => ?_)
    refine lv_ixor hx hb dX0_game_31 ?_
    refine lv_istore_n (lv' := [(2, .int (l2 ^^^ v3)), (0, .ref (wa w 37)), (1, .int l1), (3, .int l3)]) hx hb dX0_game_32 rfl hl (by decide) rfl (fun ls hl => ?_)
    refine lv_iinc (v := l3 + 1) (lv' := [(3, .int (l3 + 1)), (2, .int (l2 ^^^ v3)), (0, .ref (wa w 37)), (1, .int l1)]) hx hb dX0_game_33 hl (k := 3) rfl rfl (by decide) rfl (fun ls hl => ?_)
    refine lv_goto (tgt := 15) hx hb dX0_game_36 (by decide) ?_
    exact ih x1 l1 (l2 ^^^ v3) (l3 + 1) _ _ _ hI (lv_sub hl [2, 3, 1, 0] rfl) hf
def fT_game (N : Nat) (B : Nat × Nat) (x : TS) (l1 : Int32) : Option (Int32 × TS) :=
  (fT_isIn N l1 0 1).bind fun v1 =>
  if v1 = 0 then
    some ((-1), x)
  else
    fT_game_b15 N B N x l1 0 0
theorem tmT_game (l : Launch) (N : Nat) {w : tO} {A : Nat → Prop} (B : Nat × Nat) : ∀ (x : TS) (l1 : Int32) (r : Int32) (xr : TS), fT_game N B x l1 = some (r, xr) → tMet l yX0_game (ws_ yX0_game cX0_game 5 (some .int)) frT_game loT_game [.ref (wa w 37), .int l1] w A B x (some (.int r)) xr := by
  intro x l1 r xr hf
  refine t_start (cc := cX0_game) (own := RX0) (by decide +kernel) rfl (Nat.le_of_ble_eq_true rfl) rfl ?_
  intro p e s m args below meth c ls H locs C hmn hI hl
  have hx := C.1.1
  have hb := C.1.2.1
  have hown := C.1.2.2.2.1
  have hts := C.1.2.2.2.2.1
  have hE := C.2.2
  rw [fT_game] at hf
  refine lv_iload_n hx hb dX0_game_0 rfl (lv_at hl 1 rfl) ?_
  refine lv_iconst (v := 0) hx hb dX0_game_1 (by decide) ?_
  refine lv_iconst (v := 1) hx hb dX0_game_2 (by decide) ?_
  refine g_calliS (rest := []) C.1 hf (smT_isIn l N _ _ _) cqT_T_isIn ⟨rfl, rfl⟩ ⟨Nat.le_of_ble_eq_true rfl, Nat.le_of_ble_eq_true rfl⟩ rfl hl.1 rfl (Nat.le_of_ble_eq_true rfl) (t_room hI) dX0_game_3 (fun v1 hf => ?_)
  refine b_ifne (tgt := 11) hx hb hf dX0_game_6 (by decide) (fun hf => ?_) (fun hf => ?_)
  · refine lv_iconst (v := 0) hx hb dX0_game_11 (by decide) ?_
    refine lv_istore_n (lv' := [(2, .int 0), (0, .ref (wa w 37)), (1, .int l1)]) hx hb dX0_game_12 rfl hl (by decide) rfl (fun ls hl => ?_)
    refine lv_iconst (v := 0) hx hb dX0_game_13 (by decide) ?_
    refine lv_istore_n (lv' := [(3, .int 0), (2, .int 0), (0, .ref (wa w 37)), (1, .int l1)]) hx hb dX0_game_14 rfl hl (by decide) rfl (fun ls hl => ?_)
    exact w_fT_game_b15 C N x l1 0 0 _ _ _ hI (lv_sub hl [2, 3, 1, 0] rfl) hf
  · refine lv_iconst (v := (-1)) hx hb dX0_game_9 (by decide) ?_
    exact t_iret C hI hf dX0_game_10
