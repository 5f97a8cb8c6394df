set_option maxRecDepth 100000
variable {p : Program} {l : Launch} {e : Env} {R : Room} {s : State} {m : MethodId} {args : Array Value} {below : List Frame} {meth : Method} {c : Code} {H : Heap} {locs : List Loc} {Q : State → Prop}
variable {w : mO} {A : Nat → Prop}
/-! hasMoved(I)Z -/
abbrev rmM_hasMoved : Room := { frames := 0, cells := 0, slots := 0, locals := 0 }
def fM_hasMoved (N : Nat) (x : MS) (l1 : Int32) : Option (Int32 × MS) :=
  (rd 1725 (gA x 0) (76 + l1)).bind fun v1 =>
  lt (if v1 = (-1) then 0 else 1 : Int32) fun v2 =>
  some (zb v2, x)
theorem mm_hasMoved (l : Launch) (N : Nat) {w : mO} {A : Nat → Prop} : ∀ (x : MS) (l1 : Int32) (r : Int32) (xr : MS), fM_hasMoved N x l1 = some (r, xr) → mMet l yX3_hasMoved (ws_ yX3_hasMoved cX3_hasMoved 2 (some .boolean)) rmM_hasMoved [.ref (w.2.2.1 28), .int l1] w A x (some (.int r)) xr := by
  intro x l1 r xr hf
  refine m_start (cc := cX3_hasMoved) (by decide +kernel) rfl (Nat.le_of_ble_eq_true rfl) rfl ?_
  intro p e s m args below meth c ls H locs C hI hl
  have hx := C.1.1
  have hb := C.1.2.1
  have hown := C.1.2.2.2.1
  have hts := C.1.2.2.2.2.1
  have hE := C.2.2
  rw [fM_hasMoved] at hf
  refine lv_aload_n hx hb dX3_hasMoved_0 rfl (lv_at hl 0 rfl) ?_
  refine mg0 C hI dX3_hasMoved_1 ?_
  refine lv_bipush (v := 76) hx hb dX3_hasMoved_4 (by decide) ?_
  refine lv_iload_n hx hb dX3_hasMoved_6 rfl (lv_at hl 1 rfl) ?_
  refine lv_iadd hx hb dX3_hasMoved_7 ?_
  refine ma0 C hI hf dX3_hasMoved_8 (fun v1 hf => ?_)
  refine lv_iconst (v := (-1)) hx hb dX3_hasMoved_9 (by decide) ?_
  suffices hJ : ∀ v2 : Int32, (v2 = (if v1 = (-1) then 0 else 1 : Int32)) → W p l e rmM_hasMoved s m args below meth c H locs 0 0 (MQ below (mQ w A (some (.int r)) xr) args s 0 0 A) (F0 m 18 ls [.int v2]) by
    refine lv_icmp_eq (tgt := 17) hx hb dX3_hasMoved_10 (by decide) (fun hc => ?_) (fun hc => ?_)
    · refine lv_iconst (v := 0) hx hb dX3_hasMoved_17 (by decide) ?_
      exact hJ _ (if_pos hc).symm
    · refine lv_iconst (v := 1) hx hb dX3_hasMoved_13 (by decide) ?_
      refine lv_goto (tgt := 18) hx hb dX3_hasMoved_14 (by decide) ?_
      exact hJ _ (if_neg hc).symm
  intro v2 hv
  have hf := lt_of hv hf
  exact m_zret C hI hf dX3_hasMoved_18
/-! isOut(I)Z -/
abbrev rmM_isOut : Room := { frames := 0, cells := 0, slots := 0, locals := 0 }
def fM_isOut (N : Nat) (x : MS) (l1 : Int32) : Option (Int32 × MS) :=
  (rd 1725 (gA x 0) (52 + l1)).bind fun v1 =>
  lt (if v1 = 1 then 1 else 0 : Int32) fun v2 =>
  some (zb v2, x)
theorem mm_isOut (l : Launch) (N : Nat) {w : mO} {A : Nat → Prop} : ∀ (x : MS) (l1 : Int32) (r : Int32) (xr : MS), fM_isOut N x l1 = some (r, xr) → mMet l yX3_isOut (ws_ yX3_isOut cX3_isOut 2 (some .boolean)) rmM_isOut [.ref (w.2.2.1 28), .int l1] w A x (some (.int r)) xr := by
  intro x l1 r xr hf
  refine m_start (cc := cX3_isOut) (by decide +kernel) rfl (Nat.le_of_ble_eq_true rfl) rfl ?_
  intro p e s m args below meth c ls H locs C hI hl
  have hx := C.1.1
  have hb := C.1.2.1
  have hown := C.1.2.2.2.1
  have hts := C.1.2.2.2.2.1
  have hE := C.2.2
  rw [fM_isOut] at hf
  refine lv_aload_n hx hb dX3_isOut_0 rfl (lv_at hl 0 rfl) ?_
  refine mg0 C hI dX3_isOut_1 ?_
  refine lv_bipush (v := 52) hx hb dX3_isOut_4 (by decide) ?_
  refine lv_iload_n hx hb dX3_isOut_6 rfl (lv_at hl 1 rfl) ?_
  refine lv_iadd hx hb dX3_isOut_7 ?_
  refine ma0 C hI hf dX3_isOut_8 (fun v1 hf => ?_)
  refine lv_iconst (v := 1) hx hb dX3_isOut_9 (by decide) ?_
  suffices hJ : ∀ v2 : Int32, (v2 = (if v1 = 1 then 1 else 0 : Int32)) → W p l e rmM_isOut s m args below meth c H locs 0 0 (MQ below (mQ w A (some (.int r)) xr) args s 0 0 A) (F0 m 18 ls [.int v2]) by
    refine lv_icmp_ne (tgt := 17) hx hb dX3_isOut_10 (by decide) (fun hc => ?_) (fun hc => ?_)
    · refine lv_iconst (v := 0) hx hb dX3_isOut_17 (by decide) ?_
      exact hJ _ (if_neg hc).symm
    · refine lv_iconst (v := 1) hx hb dX3_isOut_13 (by decide) ?_
      refine lv_goto (tgt := 18) hx hb dX3_isOut_14 (by decide) ?_
      exact hJ _ (if_pos hc).symm
  intro v2 hv
  have hf := lt_of hv hf
  exact m_zret C hI hf dX3_isOut_18
/-! isThere(I)Z -/
abbrev rmM_isThere : Room := { frames := 2, cells := 0, slots := 0, locals := 43 }
def fM_isThere (N : Nat) (x : MS) (l1 : Int32) : Option (Int32 × MS) :=
  b2 (fM_isLink N x l1) fun v2 x1 =>
  if v2 = 0 then
    some (0, x1)
  else
    b2 (fM_isOut N x1 l1) fun v4 x3 =>
    if v4 = 0 then
      b2 (fM_hasMoved N x3 l1) fun v6 x5 =>
      if v6 = 0 then
        some (1, x5)
      else
        some (0, x5)
    else
      some (0, x3)
theorem mm_isThere (l : Launch) (N : Nat) {w : mO} {A : Nat → Prop} : ∀ (x : MS) (l1 : Int32) (r : Int32) (xr : MS), fM_isThere N x l1 = some (r, xr) → mMet l yX3_isThere (ws_ yX3_isThere cX3_isThere 2 (some .boolean)) rmM_isThere [.ref (w.2.2.1 28), .int l1] w A x (some (.int r)) xr := by
  intro x l1 r xr hf
  refine m_start (cc := cX3_isThere) (by decide +kernel) rfl (Nat.le_of_ble_eq_true rfl) rfl ?_
  intro p e s m args below meth c ls H locs C hI hl
  have hx := C.1.1
  have hb := C.1.2.1
  have hown := C.1.2.2.2.1
  have hts := C.1.2.2.2.2.1
  have hE := C.2.2
  rw [fM_isThere] at hf
  refine lv_aload_n hx hb dX3_isThere_0 rfl (lv_at hl 0 rfl) ?_
  refine lv_iload_n hx hb dX3_isThere_1 rfl (lv_at hl 1 rfl) ?_
  refine m_calli (rest := []) C hI hf (mm_isLink l N _ _) rfl cqM_isLink ⟨rfl, rfl⟩ ⟨Nat.le_of_ble_eq_true rfl, Nat.le_of_ble_eq_true rfl⟩ rfl hl.1 rfl (Nat.le_of_ble_eq_true rfl) dX3_isThere_2 (fun v2 x1 H locs hI hf => ?_)
  refine b_ifeq (tgt := 28) hx hb hf dX3_isThere_5 (by decide) (fun hf => ?_) (fun hf => ?_)
  · refine lv_iconst (v := 0) hx hb dX3_isThere_28 (by decide) ?_
    exact m_zretc C hI zb_0 hf dX3_isThere_29
  · refine lv_aload_n hx hb dX3_isThere_8 rfl (lv_at hl 0 rfl) ?_
    refine lv_iload_n hx hb dX3_isThere_9 rfl (lv_at hl 1 rfl) ?_
    refine m_calli (rest := []) C hI hf (mm_isOut l N _ _) rfl cqM_isOut ⟨rfl, rfl⟩ ⟨Nat.le_of_ble_eq_true rfl, Nat.le_of_ble_eq_true rfl⟩ rfl hl.1 rfl (Nat.le_of_ble_eq_true rfl) dX3_isThere_10 (fun v4 x3 H locs hI hf => ?_)
    refine b_ifne (tgt := 28) hx hb hf dX3_isThere_13 (by decide) (fun hf => ?_) (fun hf => ?_)
    · refine lv_iconst (v := 0) hx hb dX3_isThere_28 (by decide) ?_
      exact m_zretc C hI zb_0 hf dX3_isThere_29
    · refine lv_aload_n hx hb dX3_isThere_16 rfl (lv_at hl 0 rfl) ?_
      refine lv_iload_n hx hb dX3_isThere_17 rfl (lv_at hl 1 rfl) ?_
      refine m_calli (rest := []) C hI hf (mm_hasMoved l N _ _) rfl cqM_hasMoved ⟨rfl, rfl⟩ ⟨Nat.le_of_ble_eq_true rfl, Nat.le_of_ble_eq_true rfl⟩ rfl hl.1 rfl (Nat.le_of_ble_eq_true rfl) dX3_isThere_18 (fun v6 x5 H locs hI hf => ?_)
      refine b_ifne (tgt := 28) hx hb hf dX3_isThere_21 (by decide) (fun hf => ?_) (fun hf => ?_)
      · refine lv_iconst (v := 0) hx hb dX3_isThere_28 (by decide) ?_
        exact m_zretc C hI zb_0 hf dX3_isThere_29
      · refine lv_iconst (v := 1) hx hb dX3_isThere_24 (by decide) ?_
        refine lv_goto (tgt := 29) hx hb dX3_isThere_25 (by decide) ?_
        exact m_zretc C hI zb_1 hf dX3_isThere_29
/-! canAsk(I)Z -/
abbrev rmM_canAsk : Room := { frames := 3, cells := 0, slots := 0, locals := 64 }
def fM_canAsk (N : Nat) (x : MS) (l1 : Int32) : Option (Int32 × MS) :=
  b2 (fM_isLink N x l1) fun v2 x1 =>
  if v2 = 0 then
    some (0, x1)
  else
    b2 (fM_isThere N x1 (l1 + 1)) fun v4 x3 =>
    if v4 = 0 then
      some (0, x3)
    else
      some (1, x3)
theorem mm_canAsk (l : Launch) (N : Nat) {w : mO} {A : Nat → Prop} : ∀ (x : MS) (l1 : Int32) (r : Int32) (xr : MS), fM_canAsk N x l1 = some (r, xr) → mMet l yX3_canAsk (ws_ yX3_canAsk cX3_canAsk 2 (some .boolean)) rmM_canAsk [.ref (w.2.2.1 28), .int l1] w A x (some (.int r)) xr := by
  intro x l1 r xr hf
  refine m_start (cc := cX3_canAsk) (by decide +kernel) rfl (Nat.le_of_ble_eq_true rfl) rfl ?_
  intro p e s m args below meth c ls H locs C hI hl
  have hx := C.1.1
  have hb := C.1.2.1
  have hown := C.1.2.2.2.1
  have hts := C.1.2.2.2.2.1
  have hE := C.2.2
  rw [fM_canAsk] at hf
  refine lv_aload_n hx hb dX3_canAsk_0 rfl (lv_at hl 0 rfl) ?_
  refine lv_iload_n hx hb dX3_canAsk_1 rfl (lv_at hl 1 rfl) ?_
  refine m_calli (rest := []) C hI hf (mm_isLink l N _ _) rfl cqM_isLink ⟨rfl, rfl⟩ ⟨Nat.le_of_ble_eq_true rfl, Nat.le_of_ble_eq_true rfl⟩ rfl hl.1 rfl (Nat.le_of_ble_eq_true rfl) dX3_canAsk_2 (fun v2 x1 H locs hI hf => ?_)
  refine b_ifeq (tgt := 22) hx hb hf dX3_canAsk_5 (by decide) (fun hf => ?_) (fun hf => ?_)
  · refine lv_iconst (v := 0) hx hb dX3_canAsk_22 (by decide) ?_
    exact m_zretc C hI zb_0 hf dX3_canAsk_23
  · refine lv_aload_n hx hb dX3_canAsk_8 rfl (lv_at hl 0 rfl) ?_
    refine lv_iload_n hx hb dX3_canAsk_9 rfl (lv_at hl 1 rfl) ?_
    refine lv_iconst (v := 1) hx hb dX3_canAsk_10 (by decide) ?_
    refine lv_iadd hx hb dX3_canAsk_11 ?_
    refine m_calli (rest := []) C hI hf (mm_isThere l N _ _) rfl cqM_isThere ⟨rfl, rfl⟩ ⟨Nat.le_of_ble_eq_true rfl, Nat.le_of_ble_eq_true rfl⟩ rfl hl.1 rfl (Nat.le_of_ble_eq_true rfl) dX3_canAsk_12 (fun v4 x3 H locs hI hf => ?_)
    refine b_ifeq (tgt := 22) hx hb hf dX3_canAsk_15 (by decide) (fun hf => ?_) (fun hf => ?_)
    · refine lv_iconst (v := 0) hx hb dX3_canAsk_22 (by decide) ?_
      exact m_zretc C hI zb_0 hf dX3_canAsk_23
    · refine lv_iconst (v := 1) hx hb dX3_canAsk_18 (by decide) ?_
      refine lv_goto (tgt := 23) hx hb dX3_canAsk_19 (by decide) ?_
      exact m_zretc C hI zb_1 hf dX3_canAsk_23
/-! keeps()V -/
abbrev rmM_keeps : Room := { frames := 0, cells := 0, slots := 0, locals := 0 }
def fM_keeps_b51 (N : Nat) : Nat → MS → Int32 → Option MS
  | 0, _, _ => none
  | n + 1, x, l1 =>
  if 88 ≤ l1 then
    some (sS (sS x 4 ((gS x 4) + 1)) 26 1)
  else
    (rd 1725 (gA x 0) l1).bind fun v1 =>
    (wr x 2 528 ((88 * (gS x 4)) + l1) v1).bind fun x2 =>
    fM_keeps_b51 N n x2 (l1 + 1)
theorem w_fM_keeps_b51 {N : Nat} {xr : MS} (C : mC w A p s m args meth c cX3_keeps 2 none) : ∀ (n : Nat) (x : MS) (l1 : Int32) (H : Heap) (locs : List Loc) (ls : Array Slot), mI w A x s.heap H locs → lv_has ls 2 [(0, .ref (w.2.2.1 28)), (1, .int l1)] → fM_keeps_b51 N n x l1 = some xr → W p l e rmM_keeps s m args below meth c H locs 0 0 (MQ below (mQ w A none xr) args s 0 0 A) (F0 m 51 ls []) := by
  have hx := C.1.1
  have hb := C.1.2.1
  have hown := C.1.2.2.2.1
  have hts := C.1.2.2.2.2.1
  have hE := C.2.2
  intro n
  induction n with
  | zero => intro x l1 H locs ls hI hl hf; rw [fM_keeps_b51] at hf; cases hf
  | succ n ih =>
  intro x l1 H locs ls hI hl hf
  rw [fM_keeps_b51] at hf
  refine lv_iload_n hx hb dX3_keeps_51 rfl (lv_at hl 1 rfl) ?_
  refine lv_bipush (v := 88) hx hb dX3_keeps_52 (by decide) ?_
  refine b_icge (tgt := 83) hx hb hf dX3_keeps_54 (by decide) (fun hf => ?_) (fun hf => ?_)
  · refine lv_aload_n hx hb dX3_keeps_83 rfl (lv_at hl 0 rfl) ?_
    refine lv_dup hx hb dX3_keeps_84 rfl ?_
    refine mg4 C hI dX3_keeps_85 ?_
    refine lv_iconst (v := 1) hx hb dX3_keeps_88 (by decide) ?_
    refine lv_iadd hx hb dX3_keeps_89 ?_
    refine mp4 C hI dX3_keeps_90 (fun H locs hI => ?_)
    refine lv_aload_n hx hb dX3_keeps_93 rfl (lv_at hl 0 rfl) ?_
    refine lv_iconst (v := 1) hx hb dX3_keeps_94 (by decide) ?_
    refine mp26 C hI rfl rfl dX3_keeps_95 (fun H locs hI => ?_)
    exact m_vret C hI hf dX3_keeps_98
  · refine lv_aload_n hx hb dX3_keeps_57 rfl (lv_at hl 0 rfl) ?_
    refine mg2 C hI dX3_keeps_58 ?_
    refine lv_bipush (v := 88) hx hb dX3_keeps_61 (by decide) ?_
    refine lv_aload_n hx hb dX3_keeps_63 rfl (lv_at hl 0 rfl) ?_
    refine mg4 C hI dX3_keeps_64 ?_
    refine lv_imul hx hb dX3_keeps_67 ?_
    refine lv_iload_n hx hb dX3_keeps_68 rfl (lv_at hl 1 rfl) ?_
    refine lv_iadd hx hb dX3_keeps_69 ?_
    refine lv_aload_n hx hb dX3_keeps_70 rfl (lv_at hl 0 rfl) ?_
    refine mg0 C hI dX3_keeps_71 ?_
    refine lv_iload_n hx hb dX3_keeps_74 rfl (lv_at hl 1 rfl) ?_
    refine ma0 C hI hf dX3_keeps_75 (fun v1 hf => ?_)
    refine ms2 C hI hf dX3_keeps_76 (fun x2 H locs hI hf => ?_)
    refine lv_iinc (v := l1 + 1) (lv' := [(1, .int (l1 + 1)), (0, .ref (w.2.2.1 28))]) hx hb dX3_keeps_77 hl (k := 1) rfl rfl (by decide) rfl (fun ls hl => ?_)
    refine lv_goto (tgt := 51) hx hb dX3_keeps_80 (by decide) ?_
    exact ih x2 (l1 + 1) _ _ _ hI (lv_sub hl [1, 0] rfl) hf
def fM_keeps_b11 (N : Nat) : Nat → MS → Int32 → Option MS
  | 0, _, _ => none
  | n + 1, x, l1 =>
  if 440 ≤ l1 then
    fM_keeps_b51 N N (sS x 4 ((gS x 4) - 1)) 0
  else
    (rd 528 (gA x 2) (l1 + 88)).bind fun v1 =>
    (wr x 2 528 l1 v1).bind fun x2 =>
    fM_keeps_b11 N n x2 (l1 + 1)
theorem w_fM_keeps_b11 {N : Nat} {xr : MS} (C : mC w A p s m args meth c cX3_keeps 2 none) : ∀ (n : Nat) (x : MS) (l1 : Int32) (H : Heap) (locs : List Loc) (ls : Array Slot), mI w A x s.heap H locs → lv_has ls 2 [(0, .ref (w.2.2.1 28)), (1, .int l1)] → fM_keeps_b11 N n x l1 = some xr → W p l e rmM_keeps s m args below meth c H locs 0 0 (MQ below (mQ w A none xr) args s 0 0 A) (F0 m 11 ls []) := by
  have hx := C.1.1
  have hb := C.1.2.1
  have hown := C.1.2.2.2.1
  have hts := C.1.2.2.2.2.1
  have hE := C.2.2
  intro n
  induction n with
  | zero => intro x l1 H locs ls hI hl hf; rw [fM_keeps_b11] at hf; cases hf
  | succ n ih =>
  intro x l1 H locs ls hI hl hf
  rw [fM_keeps_b11] at hf
  refine lv_iload_n hx hb dX3_keeps_11 rfl (lv_at hl 1 rfl) ?_
  refine lv_sipush (v := 440) hx hb dX3_keeps_12 (by decide) ?_
  refine b_icge (tgt := 39) hx hb hf dX3_keeps_15 (by decide) (fun hf => ?_) (fun hf => ?_)
  · refine lv_aload_n hx hb dX3_keeps_39 rfl (lv_at hl 0 rfl) ?_
    refine lv_dup hx hb dX3_keeps_40 rfl ?_
    refine mg4 C hI dX3_keeps_41 ?_
    refine lv_iconst (v := 1) hx hb dX3_keeps_44 (by decide) ?_
    refine lv_isub hx hb dX3_keeps_45 ?_
    refine mp4 C hI dX3_keeps_46 (fun H locs hI => ?_)
    refine lv_iconst (v := 0) hx hb dX3_keeps_49 (by decide) ?_
    refine lv_istore_n (lv' := [(1, .int 0), (0, .ref (w.2.2.1 28))]) hx hb dX3_keeps_50 rfl hl (by decide) rfl (fun ls hl => ?_)
    exact w_fM_keeps_b51 C N (sS x 4 ((gS x 4) - 1)) 0 _ _ _ hI (lv_sub hl [1, 0] rfl) hf
  · refine lv_aload_n hx hb dX3_keeps_18 rfl (lv_at hl 0 rfl) ?_
    refine mg2 C hI dX3_keeps_19 ?_
    refine lv_iload_n hx hb dX3_keeps_22 rfl (lv_at hl 1 rfl) ?_
    refine lv_aload_n hx hb dX3_keeps_23 rfl (lv_at hl 0 rfl) ?_
    refine mg2 C hI dX3_keeps_24 ?_
    refine lv_iload_n hx hb dX3_keeps_27 rfl (lv_at hl 1 rfl) ?_
    refine lv_bipush (v := 88) hx hb dX3_keeps_28 (by decide) ?_
    refine lv_iadd hx hb dX3_keeps_30 ?_
    refine ma2 C hI hf dX3_keeps_31 (fun v1 hf => ?_)
    refine ms2 C hI hf dX3_keeps_32 (fun x2 H locs hI hf => ?_)
    refine lv_iinc (v := l1 + 1) (lv' := [(1, .int (l1 + 1)), (0, .ref (w.2.2.1 28))]) hx hb dX3_keeps_33 hl (k := 1) rfl rfl (by decide) rfl (fun ls hl => ?_)
    refine lv_goto (tgt := 11) hx hb dX3_keeps_36 (by decide) ?_
    exact ih x2 (l1 + 1) _ _ _ hI (lv_sub hl [1, 0] rfl) hf
def fM_keeps (N : Nat) (x : MS) : Option MS :=
  if (gS x 4) = 6 then
    fM_keeps_b11 N N x 0
  else
    fM_keeps_b51 N N x 0
theorem mm_keeps (l : Launch) (N : Nat) {w : mO} {A : Nat → Prop} : ∀ (x : MS) (xr : MS), fM_keeps N x  = some xr → mMet l yX3_keeps (ws_ yX3_keeps cX3_keeps 2 none) rmM_keeps [.ref (w.2.2.1 28)] w A x none xr := by
  intro x  xr hf
  refine m_start (cc := cX3_keeps) (by decide +kernel) rfl (Nat.le_of_ble_eq_true rfl) rfl ?_
  intro p e s m args below meth c ls H locs C hI hl
  have hx := C.1.1
  have hb := C.1.2.1
  have hown := C.1.2.2.2.1
  have hts := C.1.2.2.2.2.1
  have hE := C.2.2
  rw [fM_keeps] at hf
  refine lv_aload_n hx hb dX3_keeps_0 rfl (lv_at hl 0 rfl) ?_
  refine mg4 C hI dX3_keeps_1 ?_
  refine lv_bipush (v := 6) hx hb dX3_keeps_4 (by decide) ?_
  refine b_icne (tgt := 49) hx hb hf dX3_keeps_6 (by decide) (fun hf => ?_) (fun hf => ?_)
  · refine lv_iconst (v := 0) hx hb dX3_keeps_49 (by decide) ?_
    refine lv_istore_n (lv' := [(1, .int 0), (0, .ref (w.2.2.1 28))]) hx hb dX3_keeps_50 rfl hl (by decide) rfl (fun ls hl => ?_)
    exact w_fM_keeps_b51 C N x 0 _ _ _ hI (lv_sub hl [1, 0] rfl) hf
  · refine lv_iconst (v := 0) hx hb dX3_keeps_9 (by decide) ?_
    refine lv_istore_n (lv' := [(1, .int 0), (0, .ref (w.2.2.1 28))]) hx hb dX3_keeps_10 rfl hl (by decide) rfl (fun ls hl => ?_)
    exact w_fM_keeps_b11 C N x 0 _ _ _ hI (lv_sub hl [1, 0] rfl) hf
/-! ask(II)I -/
abbrev rmM_ask : Room := { frames := 6, cells := 0, slots := 0, locals := 140 }
def fM_ask (N : Nat) (x : MS) (l1 : Int32) (l2 : Int32) : Option (Int32 × MS) :=
  b2 (fM_canAsk N x l1) fun v2 x1 =>
  if v2 = 0 then
    some ((-1), x1)
  else
    (fM_isIn N l2 1 99).bind fun v3 =>
    if v3 = 0 then
      some ((-1), x1)
    else
      (fM_keeps N x1).bind fun x4 =>
      b2 (fM_asks N x4 l1 l2) fun v6 x5 =>
      some (v6, x5)
theorem mm_ask (l : Launch) (N : Nat) {w : mO} {A : Nat → Prop} : ∀ (x : MS) (l1 : Int32) (l2 : Int32) (r : Int32) (xr : MS), fM_ask N x l1 l2 = some (r, xr) → mMet l yX3_ask (ws_ yX3_ask cX3_ask 3 (some .int)) rmM_ask [.ref (w.2.2.1 28), .int l1, .int l2] w A x (some (.int r)) xr := by
  intro x l1 l2 r xr hf
  refine m_start (cc := cX3_ask) (by decide +kernel) rfl (Nat.le_of_ble_eq_true rfl) rfl ?_
  intro p e s m args below meth c ls H locs C hI hl
  have hx := C.1.1
  have hb := C.1.2.1
  have hown := C.1.2.2.2.1
  have hts := C.1.2.2.2.2.1
  have hE := C.2.2
  rw [fM_ask] at hf
  refine lv_aload_n hx hb dX3_ask_0 rfl (lv_at hl 0 rfl) ?_
  refine lv_iload_n hx hb dX3_ask_1 rfl (lv_at hl 1 rfl) ?_
  refine m_calli (rest := []) C hI hf (mm_canAsk l N _ _) rfl cqM_canAsk ⟨rfl, rfl⟩ ⟨Nat.le_of_ble_eq_true rfl, Nat.le_of_ble_eq_true rfl⟩ rfl hl.1 rfl (Nat.le_of_ble_eq_true rfl) dX3_ask_2 (fun v2 x1 H locs hI hf => ?_)
  refine b_ifeq (tgt := 18) hx hb hf dX3_ask_5 (by decide) (fun hf => ?_) (fun hf => ?_)
  · refine lv_iconst (v := (-1)) hx hb dX3_ask_18 (by decide) ?_
    exact m_iret C hI hf dX3_ask_19
  · refine lv_iload_n hx hb dX3_ask_8 rfl (lv_at hl 2 rfl) ?_
    refine lv_iconst (v := 1) hx hb dX3_ask_9 (by decide) ?_
    refine lv_bipush (v := 99) hx hb dX3_ask_10 (by decide) ?_
    refine g_calliS (rest := []) C.1 hf (smM_isIn l N _ _ _) cqM_M_isIn ⟨rfl, rfl⟩ ⟨Nat.le_of_ble_eq_true rfl, Nat.le_of_ble_eq_true rfl⟩ rfl hl.1 rfl (Nat.le_of_ble_eq_true rfl) ⟨Nat.zero_le _, Nat.zero_le _⟩ dX3_ask_12 (fun v3 hf => ?_)
    refine b_ifne (tgt := 20) hx hb hf dX3_ask_15 (by decide) (fun hf => ?_) (fun hf => ?_)
    · refine lv_aload_n hx hb dX3_ask_20 rfl (lv_at hl 0 rfl) ?_
      refine m_callv (rest := []) C hI hf (mm_keeps l N _) rfl cqM_keeps ⟨rfl, rfl⟩ ⟨Nat.le_of_ble_eq_true rfl, Nat.le_of_ble_eq_true rfl⟩ rfl hl.1 rfl (Nat.le_of_ble_eq_true rfl) dX3_ask_21 (fun x4 H locs hI hf => ?_)
      refine lv_aload_n hx hb dX3_ask_24 rfl (lv_at hl 0 rfl) ?_
      refine lv_iload_n hx hb dX3_ask_25 rfl (lv_at hl 1 rfl) ?_
      refine lv_iload_n hx hb dX3_ask_26 rfl (lv_at hl 2 rfl) ?_
      refine m_calli (rest := []) C hI hf (mm_asks l N _ _ _) rfl cqM_asks ⟨rfl, rfl⟩ ⟨Nat.le_of_ble_eq_true rfl, Nat.le_of_ble_eq_true rfl⟩ rfl hl.1 rfl (Nat.le_of_ble_eq_true rfl) dX3_ask_27 (fun v6 x5 H locs hI hf => ?_)
      exact m_iret C hI hf dX3_ask_30
    · refine lv_iconst (v := (-1)) hx hb dX3_ask_18 (by decide) ?_
      exact m_iret C hI hf dX3_ask_19
/-! bridges0(I)V -/
abbrev rmM_bridges0 : Room := { frames := 1, cells := 0, slots := 0, locals := 24 }
def fM_bridges0 (N : Nat) (x : MS) (l1 : Int32) : Option MS :=
  (wr x 0 1725 (64 + l1) 1).bind fun x1 =>
  (fM_notes N x1 1 l1 0).bind fun x2 =>
  some x2
theorem mm_bridges0 (l : Launch) (N : Nat) {w : mO} {A : Nat → Prop} : ∀ (x : MS) (l1 : Int32) (xr : MS), fM_bridges0 N x l1 = some xr → mMet l yX3_bridges0 (ws_ yX3_bridges0 cX3_bridges0 2 none) rmM_bridges0 [.ref (w.2.2.1 28), .int l1] w A x none xr := by
  intro x l1 xr hf
  refine m_start (cc := cX3_bridges0) (by decide +kernel) rfl (Nat.le_of_ble_eq_true rfl) rfl ?_
  intro p e s m args below meth c ls H locs C hI hl
  have hx := C.1.1
  have hb := C.1.2.1
  have hown := C.1.2.2.2.1
  have hts := C.1.2.2.2.2.1
  have hE := C.2.2
  rw [fM_bridges0] at hf
  refine lv_aload_n hx hb dX3_bridges0_0 rfl (lv_at hl 0 rfl) ?_
  refine mg0 C hI dX3_bridges0_1 ?_
  refine lv_bipush (v := 64) hx hb dX3_bridges0_4 (by decide) ?_
  refine lv_iload_n hx hb dX3_bridges0_6 rfl (lv_at hl 1 rfl) ?_
  refine lv_iadd hx hb dX3_bridges0_7 ?_
  refine lv_iconst (v := 1) hx hb dX3_bridges0_8 (by decide) ?_
  refine ms0 C hI hf dX3_bridges0_9 (fun x1 H locs hI hf => ?_)
  refine lv_aload_n hx hb dX3_bridges0_10 rfl (lv_at hl 0 rfl) ?_
  refine lv_iconst (v := 1) hx hb dX3_bridges0_11 (by decide) ?_
  refine lv_iload_n hx hb dX3_bridges0_12 rfl (lv_at hl 1 rfl) ?_
  refine lv_iconst (v := 0) hx hb dX3_bridges0_13 (by decide) ?_
  refine m_callv (rest := []) C hI hf (mm_notes l N _ _ _ _) rfl cqM_notes ⟨rfl, rfl⟩ ⟨Nat.le_of_ble_eq_true rfl, Nat.le_of_ble_eq_true rfl⟩ rfl hl.1 rfl (Nat.le_of_ble_eq_true rfl) dX3_bridges0_14 (fun x2 H locs hI hf => ?_)
  exact m_vret C hI hf dX3_bridges0_17
/-! canBridge(I)Z -/
abbrev rmM_canBridge : Room := { frames := 3, cells := 0, slots := 0, locals := 64 }
def fM_canBridge (N : Nat) (x : MS) (l1 : Int32) : Option (Int32 × MS) :=
  b2 (fM_isThere N x l1) fun v2 x1 =>
  if v2 = 0 then
    some (0, x1)
  else
    if l1 ≤ 0 then
      some (0, x1)
    else
      if ((gA x1 0 88) - 1) ≤ l1 then
        some (0, x1)
      else
        b2 (fM_isBridged N x1 l1) fun v4 x3 =>
        if v4 = 0 then
          some (1, x3)
        else
          some (0, x3)
theorem mm_canBridge (l : Launch) (N : Nat) {w : mO} {A : Nat → Prop} : ∀ (x : MS) (l1 : Int32) (r : Int32) (xr : MS), fM_canBridge N x l1 = some (r, xr) → mMet l yX3_canBridge (ws_ yX3_canBridge cX3_canBridge 2 (some .boolean)) rmM_canBridge [.ref (w.2.2.1 28), .int l1] w A x (some (.int r)) xr := by
  intro x l1 r xr hf
  refine m_start (cc := cX3_canBridge) (by decide +kernel) rfl (Nat.le_of_ble_eq_true rfl) rfl ?_
  intro p e s m args below meth c ls H locs C hI hl
  have hx := C.1.1
  have hb := C.1.2.1
  have hown := C.1.2.2.2.1
  have hts := C.1.2.2.2.2.1
  have hE := C.2.2
  rw [fM_canBridge] at hf
  refine lv_aload_n hx hb dX3_canBridge_0 rfl (lv_at hl 0 rfl) ?_
  refine lv_iload_n hx hb dX3_canBridge_1 rfl (lv_at hl 1 rfl) ?_
  refine m_calli (rest := []) C hI hf (mm_isThere l N _ _) rfl cqM_isThere ⟨rfl, rfl⟩ ⟨Nat.le_of_ble_eq_true rfl, Nat.le_of_ble_eq_true rfl⟩ rfl hl.1 rfl (Nat.le_of_ble_eq_true rfl) dX3_canBridge_2 (fun v2 x1 H locs hI hf => ?_)
  refine b_ifeq (tgt := 37) hx hb hf dX3_canBridge_5 (by decide) (fun hf => ?_) (fun hf => ?_)
  · refine lv_iconst (v := 0) hx hb dX3_canBridge_37 (by decide) ?_
    exact m_zretc C hI zb_0 hf dX3_canBridge_38
  · refine lv_iload_n hx hb dX3_canBridge_8 rfl (lv_at hl 1 rfl) ?_
    refine b_ifle (tgt := 37) hx hb hf dX3_canBridge_9 (by decide) (fun hf => ?_) (fun hf => ?_)
    · refine lv_iconst (v := 0) hx hb dX3_canBridge_37 (by decide) ?_
      exact m_zretc C hI zb_0 hf dX3_canBridge_38
    · refine lv_iload_n hx hb dX3_canBridge_12 rfl (lv_at hl 1 rfl) ?_
      refine lv_aload_n hx hb dX3_canBridge_13 rfl (lv_at hl 0 rfl) ?_
      refine mg0 C hI dX3_canBridge_14 ?_
      refine lv_bipush (v := 88) hx hb dX3_canBridge_17 (by decide) ?_
      refine mac0 C hI rc1725_88 dX3_canBridge_19 ?_
      refine lv_iconst (v := 1) hx hb dX3_canBridge_20 (by decide) ?_
      refine lv_isub hx hb dX3_canBridge_21 ?_
      refine b_icge (tgt := 37) hx hb hf dX3_canBridge_22 (by decide) (fun hf => ?_) (fun hf => ?_)
      · refine lv_iconst (v := 0) hx hb dX3_canBridge_37 (by decide) ?_
        exact m_zretc C hI zb_0 hf dX3_canBridge_38
      · refine lv_aload_n hx hb dX3_canBridge_25 rfl (lv_at hl 0 rfl) ?_
        refine lv_iload_n hx hb dX3_canBridge_26 rfl (lv_at hl 1 rfl) ?_
        refine m_calli (rest := []) C hI hf (mm_isBridged l N _ _) rfl cqM_isBridged ⟨rfl, rfl⟩ ⟨Nat.le_of_ble_eq_true rfl, Nat.le_of_ble_eq_true rfl⟩ rfl hl.1 rfl (Nat.le_of_ble_eq_true rfl) dX3_canBridge_27 (fun v4 x3 H locs hI hf => ?_)
        refine b_ifne (tgt := 37) hx hb hf dX3_canBridge_30 (by decide) (fun hf => ?_) (fun hf => ?_)
        · refine lv_iconst (v := 0) hx hb dX3_canBridge_37 (by decide) ?_
          exact m_zretc C hI zb_0 hf dX3_canBridge_38
        · refine lv_iconst (v := 1) hx hb dX3_canBridge_33 (by decide) ?_
          refine lv_goto (tgt := 38) hx hb dX3_canBridge_34 (by decide) ?_
          exact m_zretc C hI zb_1 hf dX3_canBridge_38
/-! bridge(I)Z -/
abbrev rmM_bridge : Room := { frames := 4, cells := 0, slots := 0, locals := 85 }
def fM_bridge (N : Nat) (x : MS) (l1 : Int32) : Option (Int32 × MS) :=
  b2 (fM_canBridge N x l1) fun v2 x1 =>
  if v2 = 0 then
    some (0, x1)
  else
    (fM_keeps N x1).bind fun x3 =>
    (fM_bridges0 N x3 l1).bind fun x4 =>
    some (1, x4)
theorem mm_bridge (l : Launch) (N : Nat) {w : mO} {A : Nat → Prop} : ∀ (x : MS) (l1 : Int32) (r : Int32) (xr : MS), fM_bridge N x l1 = some (r, xr) → mMet l yX3_bridge (ws_ yX3_bridge cX3_bridge 2 (some .boolean)) rmM_bridge [.ref (w.2.2.1 28), .int l1] w A x (some (.int r)) xr := by
  intro x l1 r xr hf
  refine m_start (cc := cX3_bridge) (by decide +kernel) rfl (Nat.le_of_ble_eq_true rfl) rfl ?_
  intro p e s m args below meth c ls H locs C hI hl
  have hx := C.1.1
  have hb := C.1.2.1
  have hown := C.1.2.2.2.1
  have hts := C.1.2.2.2.2.1
  have hE := C.2.2
  rw [fM_bridge] at hf
  refine lv_aload_n hx hb dX3_bridge_0 rfl (lv_at hl 0 rfl) ?_
  refine lv_iload_n hx hb dX3_bridge_1 rfl (lv_at hl 1 rfl) ?_
  refine m_calli (rest := []) C hI hf (mm_canBridge l N _ _) rfl cqM_canBridge ⟨rfl, rfl⟩ ⟨Nat.le_of_ble_eq_true rfl, Nat.le_of_ble_eq_true rfl⟩ rfl hl.1 rfl (Nat.le_of_ble_eq_true rfl) dX3_bridge_2 (fun v2 x1 H locs hI hf => ?_)
  refine b_ifne (tgt := 10) hx hb hf dX3_bridge_5 (by decide) (fun hf => ?_) (fun hf => ?_)
  · refine lv_aload_n hx hb dX3_bridge_10 rfl (lv_at hl 0 rfl) ?_
    refine m_callv (rest := []) C hI hf (mm_keeps l N _) rfl cqM_keeps ⟨rfl, rfl⟩ ⟨Nat.le_of_ble_eq_true rfl, Nat.le_of_ble_eq_true rfl⟩ rfl hl.1 rfl (Nat.le_of_ble_eq_true rfl) dX3_bridge_11 (fun x3 H locs hI hf => ?_)
    refine lv_aload_n hx hb dX3_bridge_14 rfl (lv_at hl 0 rfl) ?_
    refine lv_iload_n hx hb dX3_bridge_15 rfl (lv_at hl 1 rfl) ?_
    refine m_callv (rest := []) C hI hf (mm_bridges0 l N _ _) rfl cqM_bridges0 ⟨rfl, rfl⟩ ⟨Nat.le_of_ble_eq_true rfl, Nat.le_of_ble_eq_true rfl⟩ rfl hl.1 rfl (Nat.le_of_ble_eq_true rfl) dX3_bridge_16 (fun x4 H locs hI hf => ?_)
    refine lv_iconst (v := 1) hx hb dX3_bridge_19 (by decide) ?_
    exact m_zretc C hI zb_1 hf dX3_bridge_20
  · refine lv_iconst (v := 0) hx hb dX3_bridge_8 (by decide) ?_
    exact m_zretc C hI zb_0 hf dX3_bridge_9
/-! canPay0(III)Z -/
abbrev rmM_canPay0 : Room := { frames := 2, cells := 0, slots := 0, locals := 43 }
def fM_canPay0 (N : Nat) (x : MS) (l1 : Int32) (l2 : Int32) (l3 : Int32) : Option (Int32 × MS) :=
  b2 (fM_isLink N x l1) fun v2 x1 =>
  if v2 = 0 then
    some (0, x1)
  else
    b2 (fM_isLink N x1 l2) fun v4 x3 =>
    if v4 = 0 then
      some (0, x3)
    else
      if l1 = l2 then
        some (0, x3)
      else
        (rd 1725 (gA x3 0) (16 + l1)).bind fun v5 =>
        if (v5 - l3) < (-9999) then
          some (0, x3)
        else
          (rd 1725 (gA x3 0) (16 + l2)).bind fun v6 =>
          if 9999 < (v6 + l3) then
            some (0, x3)
          else
            some (1, x3)
theorem mm_canPay0 (l : Launch) (N : Nat) {w : mO} {A : Nat → Prop} : ∀ (x : MS) (l1 : Int32) (l2 : Int32) (l3 : Int32) (r : Int32) (xr : MS), fM_canPay0 N x l1 l2 l3 = some (r, xr) → mMet l yX3_canPay0 (ws_ yX3_canPay0 cX3_canPay0 4 (some .boolean)) rmM_canPay0 [.ref (w.2.2.1 28), .int l1, .int l2, .int l3] w A x (some (.int r)) xr := by
  intro x l1 l2 l3 r xr hf
  refine m_start (cc := cX3_canPay0) (by decide +kernel) rfl (Nat.le_of_ble_eq_true rfl) rfl ?_
  intro p e s m args below meth c ls H locs C hI hl
  have hx := C.1.1
  have hb := C.1.2.1
  have hown := C.1.2.2.2.1
  have hts := C.1.2.2.2.2.1
  have hE := C.2.2
  rw [fM_canPay0] at hf
  refine lv_aload_n hx hb dX3_canPay0_0 rfl (lv_at hl 0 rfl) ?_
  refine lv_iload_n hx hb dX3_canPay0_1 rfl (lv_at hl 1 rfl) ?_
  refine m_calli (rest := []) C hI hf (mm_isLink l N _ _) rfl cqM_isLink ⟨rfl, rfl⟩ ⟨Nat.le_of_ble_eq_true rfl, Nat.le_of_ble_eq_true rfl⟩ rfl hl.1 rfl (Nat.le_of_ble_eq_true rfl) dX3_canPay0_2 (fun v2 x1 H locs hI hf => ?_)
  refine b_ifeq (tgt := 59) hx hb hf dX3_canPay0_5 (by decide) (fun hf => ?_) (fun hf => ?_)
  · refine lv_iconst (v := 0) hx hb dX3_canPay0_59 (by decide) ?_
    exact m_zretc C hI zb_0 hf dX3_canPay0_60
  · refine lv_aload_n hx hb dX3_canPay0_8 rfl (lv_at hl 0 rfl) ?_
    refine lv_iload_n hx hb dX3_canPay0_9 rfl (lv_at hl 2 rfl) ?_
    refine m_calli (rest := []) C hI hf (mm_isLink l N _ _) rfl cqM_isLink ⟨rfl, rfl⟩ ⟨Nat.le_of_ble_eq_true rfl, Nat.le_of_ble_eq_true rfl⟩ rfl hl.1 rfl (Nat.le_of_ble_eq_true rfl) dX3_canPay0_10 (fun v4 x3 H locs hI hf => ?_)
    refine b_ifeq (tgt := 59) hx hb hf dX3_canPay0_13 (by decide) (fun hf => ?_) (fun hf => ?_)
    · refine lv_iconst (v := 0) hx hb dX3_canPay0_59 (by decide) ?_
      exact m_zretc C hI zb_0 hf dX3_canPay0_60
    · refine lv_iload_n hx hb dX3_canPay0_16 rfl (lv_at hl 1 rfl) ?_
      refine lv_iload_n hx hb dX3_canPay0_17 rfl (lv_at hl 2 rfl) ?_
      refine b_iceq (tgt := 59) hx hb hf dX3_canPay0_18 (by decide) (fun hf => ?_) (fun hf => ?_)
      · refine lv_iconst (v := 0) hx hb dX3_canPay0_59 (by decide) ?_
        exact m_zretc C hI zb_0 hf dX3_canPay0_60
      · refine lv_aload_n hx hb dX3_canPay0_21 rfl (lv_at hl 0 rfl) ?_
        refine mg0 C hI dX3_canPay0_22 ?_
        refine lv_bipush (v := 16) hx hb dX3_canPay0_25 (by decide) ?_
        refine lv_iload_n hx hb dX3_canPay0_27 rfl (lv_at hl 1 rfl) ?_
        refine lv_iadd hx hb dX3_canPay0_28 ?_
        refine ma0 C hI hf dX3_canPay0_29 (fun v5 hf => ?_)
        refine lv_iload_n hx hb dX3_canPay0_30 rfl (lv_at hl 3 rfl) ?_
        refine lv_isub hx hb dX3_canPay0_31 ?_
        refine lv_sipush (v := (-9999)) hx hb dX3_canPay0_32 (by decide) ?_
        refine b_iclt (tgt := 59) hx hb hf dX3_canPay0_35 (by decide) (fun hf => ?_) (fun hf => ?_)
        · refine lv_iconst (v := 0) hx hb dX3_canPay0_59 (by decide) ?_
          exact m_zretc C hI zb_0 hf dX3_canPay0_60
        · refine lv_aload_n hx hb dX3_canPay0_38 rfl (lv_at hl 0 rfl) ?_
          refine mg0 C hI dX3_canPay0_39 ?_
          refine lv_bipush (v := 16) hx hb dX3_canPay0_42 (by decide) ?_
          refine lv_iload_n hx hb dX3_canPay0_44 rfl (lv_at hl 2 rfl) ?_
          refine lv_iadd hx hb dX3_canPay0_45 ?_
          refine ma0 C hI hf dX3_canPay0_46 (fun v6 hf => ?_)
          refine lv_iload_n hx hb dX3_canPay0_47 rfl (lv_at hl 3 rfl) ?_
          refine lv_iadd hx hb dX3_canPay0_48 ?_
          refine lv_sipush (v := 9999) hx hb dX3_canPay0_49 (by decide) ?_
          refine b_icgt (tgt := 59) hx hb hf dX3_canPay0_52 (by decide) (fun hf => ?_) (fun hf => ?_)
          · refine lv_iconst (v := 0) hx hb dX3_canPay0_59 (by decide) ?_
            exact m_zretc C hI zb_0 hf dX3_canPay0_60
          · refine lv_iconst (v := 1) hx hb dX3_canPay0_55 (by decide) ?_
            refine lv_goto (tgt := 60) hx hb dX3_canPay0_56 (by decide) ?_
            exact m_zretc C hI zb_1 hf dX3_canPay0_60
/-! pays(III)V -/
abbrev rmM_pays : Room := { frames := 1, cells := 0, slots := 0, locals := 24 }
def fM_pays (N : Nat) (x : MS) (l1 : Int32) (l2 : Int32) (l3 : Int32) : Option MS :=
  (rd 1725 (gA x 0) (16 + l1)).bind fun v1 =>
  (wr x 0 1725 (16 + l1) (v1 - l3)).bind fun x2 =>
  (rd 1725 (gA x2 0) (16 + l2)).bind fun v3 =>
  (wr x2 0 1725 (16 + l2) (v3 + l3)).bind fun x4 =>
  (fM_notes N x4 2 l1 l3).bind fun x5 =>
  some x5
theorem mm_pays (l : Launch) (N : Nat) {w : mO} {A : Nat → Prop} : ∀ (x : MS) (l1 : Int32) (l2 : Int32) (l3 : Int32) (xr : MS), fM_pays N x l1 l2 l3 = some xr → mMet l yX3_pays (ws_ yX3_pays cX3_pays 4 none) rmM_pays [.ref (w.2.2.1 28), .int l1, .int l2, .int l3] w A x none xr := by
  intro x l1 l2 l3 xr hf
  refine m_start (cc := cX3_pays) (by decide +kernel) rfl (Nat.le_of_ble_eq_true rfl) rfl ?_
  intro p e s m args below meth c ls H locs C hI hl
  have hx := C.1.1
  have hb := C.1.2.1
  have hown := C.1.2.2.2.1
  have hts := C.1.2.2.2.2.1
  have hE := C.2.2
  rw [fM_pays] at hf
  refine lv_aload_n hx hb dX3_pays_0 rfl (lv_at hl 0 rfl) ?_
  refine mg0 C hI dX3_pays_1 ?_
  refine lv_bipush (v := 16) hx hb dX3_pays_4 (by decide) ?_
  refine lv_iload_n hx hb dX3_pays_6 rfl (lv_at hl 1 rfl) ?_
  refine lv_iadd hx hb dX3_pays_7 ?_
  refine lv_dup2_11 hx hb dX3_pays_8 rfl rfl ?_
  refine ma0 C hI hf dX3_pays_9 (fun v1 hf => ?_)
  refine lv_iload_n hx hb dX3_pays_10 rfl (lv_at hl 3 rfl) ?_
  refine lv_isub hx hb dX3_pays_11 ?_
  refine ms0 C hI hf dX3_pays_12 (fun x2 H locs hI hf => ?_)
  refine lv_aload_n hx hb dX3_pays_13 rfl (lv_at hl 0 rfl) ?_
  refine mg0 C hI dX3_pays_14 ?_
  refine lv_bipush (v := 16) hx hb dX3_pays_17 (by decide) ?_
  refine lv_iload_n hx hb dX3_pays_19 rfl (lv_at hl 2 rfl) ?_
  refine lv_iadd hx hb dX3_pays_20 ?_
  refine lv_dup2_11 hx hb dX3_pays_21 rfl rfl ?_
  refine ma0 C hI hf dX3_pays_22 (fun v3 hf => ?_)
  refine lv_iload_n hx hb dX3_pays_23 rfl (lv_at hl 3 rfl) ?_
  refine lv_iadd hx hb dX3_pays_24 ?_
  refine ms0 C hI hf dX3_pays_25 (fun x4 H locs hI hf => ?_)
  refine lv_aload_n hx hb dX3_pays_26 rfl (lv_at hl 0 rfl) ?_
  refine lv_iconst (v := 2) hx hb dX3_pays_27 (by decide) ?_
  refine lv_iload_n hx hb dX3_pays_28 rfl (lv_at hl 1 rfl) ?_
  refine lv_iload_n hx hb dX3_pays_29 rfl (lv_at hl 3 rfl) ?_
  refine m_callv (rest := []) C hI hf (mm_notes l N _ _ _ _) rfl cqM_notes ⟨rfl, rfl⟩ ⟨Nat.le_of_ble_eq_true rfl, Nat.le_of_ble_eq_true rfl⟩ rfl hl.1 rfl (Nat.le_of_ble_eq_true rfl) dX3_pays_30 (fun x5 H locs hI hf => ?_)
  exact m_vret C hI hf dX3_pays_33
/-! pay(III)Z -/
abbrev rmM_pay : Room := { frames := 3, cells := 0, slots := 0, locals := 66 }
def fM_pay (N : Nat) (x : MS) (l1 : Int32) (l2 : Int32) (l3 : Int32) : Option (Int32 × MS) :=
  (fM_isIn N l3 1 99).bind fun v1 =>
  if v1 = 0 then
    some (0, x)
  else
    b2 (fM_canPay0 N x l1 l2 l3) fun v3 x2 =>
    if v3 = 0 then
      some (0, x2)
    else
      (fM_keeps N x2).bind fun x4 =>
      (fM_pays N x4 l1 l2 l3).bind fun x5 =>
      some (1, x5)
theorem mm_pay (l : Launch) (N : Nat) {w : mO} {A : Nat → Prop} : ∀ (x : MS) (l1 : Int32) (l2 : Int32) (l3 : Int32) (r : Int32) (xr : MS), fM_pay N x l1 l2 l3 = some (r, xr) → mMet l yX3_pay (ws_ yX3_pay cX3_pay 4 (some .boolean)) rmM_pay [.ref (w.2.2.1 28), .int l1, .int l2, .int l3] w A x (some (.int r)) xr := by
  intro x l1 l2 l3 r xr hf
  refine m_start (cc := cX3_pay) (by decide +kernel) rfl (Nat.le_of_ble_eq_true rfl) rfl ?_
  intro p e s m args below meth c ls H locs C hI hl
  have hx := C.1.1
  have hb := C.1.2.1
  have hown := C.1.2.2.2.1
  have hts := C.1.2.2.2.2.1
  have hE := C.2.2
  rw [fM_pay] at hf
  refine lv_iload_n hx hb dX3_pay_0 rfl (lv_at hl 3 rfl) ?_
  refine lv_iconst (v := 1) hx hb dX3_pay_1 (by decide) ?_
  refine lv_bipush (v := 99) hx hb dX3_pay_2 (by decide) ?_
  refine g_calliS (rest := []) C.1 hf (smM_isIn l N _ _ _) cqM_M_isIn ⟨rfl, rfl⟩ ⟨Nat.le_of_ble_eq_true rfl, Nat.le_of_ble_eq_true rfl⟩ rfl hl.1 rfl (Nat.le_of_ble_eq_true rfl) ⟨Nat.zero_le _, Nat.zero_le _⟩ dX3_pay_4 (fun v1 hf => ?_)
  refine b_ifeq (tgt := 20) hx hb hf dX3_pay_7 (by decide) (fun hf => ?_) (fun hf => ?_)
  · refine lv_iconst (v := 0) hx hb dX3_pay_20 (by decide) ?_
    exact m_zretc C hI zb_0 hf dX3_pay_21
  · refine lv_aload_n hx hb dX3_pay_10 rfl (lv_at hl 0 rfl) ?_
    refine lv_iload_n hx hb dX3_pay_11 rfl (lv_at hl 1 rfl) ?_
    refine lv_iload_n hx hb dX3_pay_12 rfl (lv_at hl 2 rfl) ?_
    refine lv_iload_n hx hb dX3_pay_13 rfl (lv_at hl 3 rfl) ?_
    refine m_calli (rest := []) C hI hf (mm_canPay0 l N _ _ _ _) rfl cqM_canPay0 ⟨rfl, rfl⟩ ⟨Nat.le_of_ble_eq_true rfl, Nat.le_of_ble_eq_true rfl⟩ rfl hl.1 rfl (Nat.le_of_ble_eq_true rfl) dX3_pay_14 (fun v3 x2 H locs hI hf => ?_)
    refine b_ifne (tgt := 22) hx hb hf dX3_pay_17 (by decide) (fun hf => ?_) (fun hf => ?_)
    · refine lv_aload_n hx hb dX3_pay_22 rfl (lv_at hl 0 rfl) ?_
      refine m_callv (rest := []) C hI hf (mm_keeps l N _) rfl cqM_keeps ⟨rfl, rfl⟩ ⟨Nat.le_of_ble_eq_true rfl, Nat.le_of_ble_eq_true rfl⟩ rfl hl.1 rfl (Nat.le_of_ble_eq_true rfl) dX3_pay_23 (fun x4 H locs hI hf => ?_)
      refine lv_aload_n hx hb dX3_pay_26 rfl (lv_at hl 0 rfl) ?_
      refine lv_iload_n hx hb dX3_pay_27 rfl (lv_at hl 1 rfl) ?_
      refine lv_iload_n hx hb dX3_pay_28 rfl (lv_at hl 2 rfl) ?_
      refine lv_iload_n hx hb dX3_pay_29 rfl (lv_at hl 3 rfl) ?_
      refine m_callv (rest := []) C hI hf (mm_pays l N _ _ _ _) rfl cqM_pays ⟨rfl, rfl⟩ ⟨Nat.le_of_ble_eq_true rfl, Nat.le_of_ble_eq_true rfl⟩ rfl hl.1 rfl (Nat.le_of_ble_eq_true rfl) dX3_pay_30 (fun x5 H locs hI hf => ?_)
      refine lv_iconst (v := 1) hx hb dX3_pay_33 (by decide) ?_
      exact m_zretc C hI zb_1 hf dX3_pay_34
    · refine lv_iconst (v := 0) hx hb dX3_pay_20 (by decide) ?_
      exact m_zretc C hI zb_0 hf dX3_pay_21
/-! canPaper(I)Z -/
abbrev rmM_canPaper : Room := { frames := 3, cells := 0, slots := 0, locals := 64 }
def fM_canPaper (N : Nat) (x : MS) (l1 : Int32) : Option (Int32 × MS) :=
  b2 (fM_isThere N x l1) fun v2 x1 =>
  if v2 = 0 then
    some (0, x1)
  else
    b2 (fM_isReady N x1 l1) fun v4 x3 =>
    if v4 = 0 then
      some (1, x3)
    else
      some (0, x3)
theorem mm_canPaper (l : Launch) (N : Nat) {w : mO} {A : Nat → Prop} : ∀ (x : MS) (l1 : Int32) (r : Int32) (xr : MS), fM_canPaper N x l1 = some (r, xr) → mMet l yX3_canPaper (ws_ yX3_canPaper cX3_canPaper 2 (some .boolean)) rmM_canPaper [.ref (w.2.2.1 28), .int l1] w A x (some (.int r)) xr := by
  intro x l1 r xr hf
  refine m_start (cc := cX3_canPaper) (by decide +kernel) rfl (Nat.le_of_ble_eq_true rfl) rfl ?_
  intro p e s m args below meth c ls H locs C hI hl
  have hx := C.1.1
  have hb := C.1.2.1
  have hown := C.1.2.2.2.1
  have hts := C.1.2.2.2.2.1
  have hE := C.2.2
  rw [fM_canPaper] at hf
  refine lv_aload_n hx hb dX3_canPaper_0 rfl (lv_at hl 0 rfl) ?_
  refine lv_iload_n hx hb dX3_canPaper_1 rfl (lv_at hl 1 rfl) ?_
  refine m_calli (rest := []) C hI hf (mm_isThere l N _ _) rfl cqM_isThere ⟨rfl, rfl⟩ ⟨Nat.le_of_ble_eq_true rfl, Nat.le_of_ble_eq_true rfl⟩ rfl hl.1 rfl (Nat.le_of_ble_eq_true rfl) dX3_canPaper_2 (fun v2 x1 H locs hI hf => ?_)
  refine b_ifeq (tgt := 20) hx hb hf dX3_canPaper_5 (by decide) (fun hf => ?_) (fun hf => ?_)
  · refine lv_iconst (v := 0) hx hb dX3_canPaper_20 (by decide) ?_
    exact m_zretc C hI zb_0 hf dX3_canPaper_21
  · refine lv_aload_n hx hb dX3_canPaper_8 rfl (lv_at hl 0 rfl) ?_
    refine lv_iload_n hx hb dX3_canPaper_9 rfl (lv_at hl 1 rfl) ?_
    refine m_calli (rest := []) C hI hf (mm_isReady l N _ _) rfl cqM_isReady ⟨rfl, rfl⟩ ⟨Nat.le_of_ble_eq_true rfl, Nat.le_of_ble_eq_true rfl⟩ rfl hl.1 rfl (Nat.le_of_ble_eq_true rfl) dX3_canPaper_10 (fun v4 x3 H locs hI hf => ?_)
    refine b_ifne (tgt := 20) hx hb hf dX3_canPaper_13 (by decide) (fun hf => ?_) (fun hf => ?_)
    · refine lv_iconst (v := 0) hx hb dX3_canPaper_20 (by decide) ?_
      exact m_zretc C hI zb_0 hf dX3_canPaper_21
    · refine lv_iconst (v := 1) hx hb dX3_canPaper_16 (by decide) ?_
      refine lv_goto (tgt := 21) hx hb dX3_canPaper_17 (by decide) ?_
      exact m_zretc C hI zb_1 hf dX3_canPaper_21
/-! getsReady(I)V -/
abbrev rmM_getsReady : Room := { frames := 1, cells := 0, slots := 0, locals := 24 }
def fM_getsReady (N : Nat) (x : MS) (l1 : Int32) : Option MS :=
  (wr x 0 1725 (40 + l1) 1).bind fun x1 =>
  (fM_notes N x1 3 l1 0).bind fun x2 =>
  some x2
theorem mm_getsReady (l : Launch) (N : Nat) {w : mO} {A : Nat → Prop} : ∀ (x : MS) (l1 : Int32) (xr : MS), fM_getsReady N x l1 = some xr → mMet l yX3_getsReady (ws_ yX3_getsReady cX3_getsReady 2 none) rmM_getsReady [.ref (w.2.2.1 28), .int l1] w A x none xr := by
  intro x l1 xr hf
  refine m_start (cc := cX3_getsReady) (by decide +kernel) rfl (Nat.le_of_ble_eq_true rfl) rfl ?_
  intro p e s m args below meth c ls H locs C hI hl
  have hx := C.1.1
  have hb := C.1.2.1
  have hown := C.1.2.2.2.1
  have hts := C.1.2.2.2.2.1
  have hE := C.2.2
  rw [fM_getsReady] at hf
  refine lv_aload_n hx hb dX3_getsReady_0 rfl (lv_at hl 0 rfl) ?_
  refine mg0 C hI dX3_getsReady_1 ?_
  refine lv_bipush (v := 40) hx hb dX3_getsReady_4 (by decide) ?_
  refine lv_iload_n hx hb dX3_getsReady_6 rfl (lv_at hl 1 rfl) ?_
  refine lv_iadd hx hb dX3_getsReady_7 ?_
  refine lv_iconst (v := 1) hx hb dX3_getsReady_8 (by decide) ?_
  refine ms0 C hI hf dX3_getsReady_9 (fun x1 H locs hI hf => ?_)
  refine lv_aload_n hx hb dX3_getsReady_10 rfl (lv_at hl 0 rfl) ?_
  refine lv_iconst (v := 3) hx hb dX3_getsReady_11 (by decide) ?_
  refine lv_iload_n hx hb dX3_getsReady_12 rfl (lv_at hl 1 rfl) ?_
  refine lv_iconst (v := 0) hx hb dX3_getsReady_13 (by decide) ?_
  refine m_callv (rest := []) C hI hf (mm_notes l N _ _ _ _) rfl cqM_notes ⟨rfl, rfl⟩ ⟨Nat.le_of_ble_eq_true rfl, Nat.le_of_ble_eq_true rfl⟩ rfl hl.1 rfl (Nat.le_of_ble_eq_true rfl) dX3_getsReady_14 (fun x2 H locs hI hf => ?_)
  exact m_vret C hI hf dX3_getsReady_17
/-! paper(I)Z -/
abbrev rmM_paper : Room := { frames := 4, cells := 0, slots := 0, locals := 85 }
def fM_paper (N : Nat) (x : MS) (l1 : Int32) : Option (Int32 × MS) :=
  b2 (fM_canPaper N x l1) fun v2 x1 =>
  if v2 = 0 then
    some (0, x1)
  else
    (fM_keeps N x1).bind fun x3 =>
    (fM_getsReady N x3 l1).bind fun x4 =>
    some (1, x4)
theorem mm_paper (l : Launch) (N : Nat) {w : mO} {A : Nat → Prop} : ∀ (x : MS) (l1 : Int32) (r : Int32) (xr : MS), fM_paper N x l1 = some (r, xr) → mMet l yX3_paper (ws_ yX3_paper cX3_paper 2 (some .boolean)) rmM_paper [.ref (w.2.2.1 28), .int l1] w A x (some (.int r)) xr := by
  intro x l1 r xr hf
  refine m_start (cc := cX3_paper) (by decide +kernel) rfl (Nat.le_of_ble_eq_true rfl) rfl ?_
  intro p e s m args below meth c ls H locs C hI hl
  have hx := C.1.1
  have hb := C.1.2.1
  have hown := C.1.2.2.2.1
  have hts := C.1.2.2.2.2.1
  have hE := C.2.2
  rw [fM_paper] at hf
  refine lv_aload_n hx hb dX3_paper_0 rfl (lv_at hl 0 rfl) ?_
  refine lv_iload_n hx hb dX3_paper_1 rfl (lv_at hl 1 rfl) ?_
  refine m_calli (rest := []) C hI hf (mm_canPaper l N _ _) rfl cqM_canPaper ⟨rfl, rfl⟩ ⟨Nat.le_of_ble_eq_true rfl, Nat.le_of_ble_eq_true rfl⟩ rfl hl.1 rfl (Nat.le_of_ble_eq_true rfl) dX3_paper_2 (fun v2 x1 H locs hI hf => ?_)
  refine b_ifne (tgt := 10) hx hb hf dX3_paper_5 (by decide) (fun hf => ?_) (fun hf => ?_)
  · refine lv_aload_n hx hb dX3_paper_10 rfl (lv_at hl 0 rfl) ?_
    refine m_callv (rest := []) C hI hf (mm_keeps l N _) rfl cqM_keeps ⟨rfl, rfl⟩ ⟨Nat.le_of_ble_eq_true rfl, Nat.le_of_ble_eq_true rfl⟩ rfl hl.1 rfl (Nat.le_of_ble_eq_true rfl) dX3_paper_11 (fun x3 H locs hI hf => ?_)
    refine lv_aload_n hx hb dX3_paper_14 rfl (lv_at hl 0 rfl) ?_
    refine lv_iload_n hx hb dX3_paper_15 rfl (lv_at hl 1 rfl) ?_
    refine m_callv (rest := []) C hI hf (mm_getsReady l N _ _) rfl cqM_getsReady ⟨rfl, rfl⟩ ⟨Nat.le_of_ble_eq_true rfl, Nat.le_of_ble_eq_true rfl⟩ rfl hl.1 rfl (Nat.le_of_ble_eq_true rfl) dX3_paper_16 (fun x4 H locs hI hf => ?_)
    refine lv_iconst (v := 1) hx hb dX3_paper_19 (by decide) ?_
    exact m_zretc C hI zb_1 hf dX3_paper_20
  · refine lv_iconst (v := 0) hx hb dX3_paper_8 (by decide) ?_
    exact m_zretc C hI zb_0 hf dX3_paper_9
/-! join(I)Z -/
abbrev rmM_join : Room := { frames := 2, cells := 0, slots := 0, locals := 43 }
def fM_join (N : Nat) (x : MS) (l1 : Int32) : Option (Int32 × MS) :=
  b2 (fM_isLink N x l1) fun v2 x1 =>
  if v2 = 0 then
    some (0, x1)
  else
    b2 (fM_isOut N x1 l1) fun v4 x3 =>
    if v4 = 0 then
      some (0, x3)
    else
      (fM_keeps N x3).bind fun x5 =>
      (wr x5 0 1725 (52 + l1) 0).bind fun x6 =>
      (wr x6 0 1725 (40 + l1) 0).bind fun x7 =>
      (fM_notes N x7 6 l1 0).bind fun x8 =>
      some (1, x8)
theorem mm_join (l : Launch) (N : Nat) {w : mO} {A : Nat → Prop} : ∀ (x : MS) (l1 : Int32) (r : Int32) (xr : MS), fM_join N x l1 = some (r, xr) → mMet l yX3_join (ws_ yX3_join cX3_join 2 (some .boolean)) rmM_join [.ref (w.2.2.1 28), .int l1] w A x (some (.int r)) xr := by
  intro x l1 r xr hf
  refine m_start (cc := cX3_join) (by decide +kernel) rfl (Nat.le_of_ble_eq_true rfl) rfl ?_
  intro p e s m args below meth c ls H locs C hI hl
  have hx := C.1.1
  have hb := C.1.2.1
  have hown := C.1.2.2.2.1
  have hts := C.1.2.2.2.2.1
  have hE := C.2.2
  rw [fM_join] at hf
  refine lv_aload_n hx hb dX3_join_0 rfl (lv_at hl 0 rfl) ?_
  refine lv_iload_n hx hb dX3_join_1 rfl (lv_at hl 1 rfl) ?_
  refine m_calli (rest := []) C hI hf (mm_isLink l N _ _) rfl cqM_isLink ⟨rfl, rfl⟩ ⟨Nat.le_of_ble_eq_true rfl, Nat.le_of_ble_eq_true rfl⟩ rfl hl.1 rfl (Nat.le_of_ble_eq_true rfl) dX3_join_2 (fun v2 x1 H locs hI hf => ?_)
  refine b_ifeq (tgt := 16) hx hb hf dX3_join_5 (by decide) (fun hf => ?_) (fun hf => ?_)
  · refine lv_iconst (v := 0) hx hb dX3_join_16 (by decide) ?_
    exact m_zretc C hI zb_0 hf dX3_join_17
  · refine lv_aload_n hx hb dX3_join_8 rfl (lv_at hl 0 rfl) ?_
    refine lv_iload_n hx hb dX3_join_9 rfl (lv_at hl 1 rfl) ?_
    refine m_calli (rest := []) C hI hf (mm_isOut l N _ _) rfl cqM_isOut ⟨rfl, rfl⟩ ⟨Nat.le_of_ble_eq_true rfl, Nat.le_of_ble_eq_true rfl⟩ rfl hl.1 rfl (Nat.le_of_ble_eq_true rfl) dX3_join_10 (fun v4 x3 H locs hI hf => ?_)
    refine b_ifne (tgt := 18) hx hb hf dX3_join_13 (by decide) (fun hf => ?_) (fun hf => ?_)
    · refine lv_aload_n hx hb dX3_join_18 rfl (lv_at hl 0 rfl) ?_
      refine m_callv (rest := []) C hI hf (mm_keeps l N _) rfl cqM_keeps ⟨rfl, rfl⟩ ⟨Nat.le_of_ble_eq_true rfl, Nat.le_of_ble_eq_true rfl⟩ rfl hl.1 rfl (Nat.le_of_ble_eq_true rfl) dX3_join_19 (fun x5 H locs hI hf => ?_)
      refine lv_aload_n hx hb dX3_join_22 rfl (lv_at hl 0 rfl) ?_
      refine mg0 C hI dX3_join_23 ?_
      refine lv_bipush (v := 52) hx hb dX3_join_26 (by decide) ?_
      refine lv_iload_n hx hb dX3_join_28 rfl (lv_at hl 1 rfl) ?_
      refine lv_iadd hx hb dX3_join_29 ?_
      refine lv_iconst (v := 0) hx hb dX3_join_30 (by decide) ?_
      refine ms0 C hI hf dX3_join_31 (fun x6 H locs hI hf => ?_)
      refine lv_aload_n hx hb dX3_join_32 rfl (lv_at hl 0 rfl) ?_
      refine mg0 C hI dX3_join_33 ?_
      refine lv_bipush (v := 40) hx hb dX3_join_36 (by decide) ?_
      refine lv_iload_n hx hb dX3_join_38 rfl (lv_at hl 1 rfl) ?_
      refine lv_iadd hx hb dX3_join_39 ?_
      refine lv_iconst (v := 0) hx hb dX3_join_40 (by decide) ?_
      refine ms0 C hI hf dX3_join_41 (fun x7 H locs hI hf => ?_)
      refine lv_aload_n hx hb dX3_join_42 rfl (lv_at hl 0 rfl) ?_
      refine lv_bipush (v := 6) hx hb dX3_join_43 (by decide) ?_
      refine lv_iload_n hx hb dX3_join_45 rfl (lv_at hl 1 rfl) ?_
      refine lv_iconst (v := 0) hx hb dX3_join_46 (by decide) ?_
      refine m_callv (rest := []) C hI hf (mm_notes l N _ _ _ _) rfl cqM_notes ⟨rfl, rfl⟩ ⟨Nat.le_of_ble_eq_true rfl, Nat.le_of_ble_eq_true rfl⟩ rfl hl.1 rfl (Nat.le_of_ble_eq_true rfl) dX3_join_47 (fun x8 H locs hI hf => ?_)
      refine lv_iconst (v := 1) hx hb dX3_join_50 (by decide) ?_
      exact m_zretc C hI zb_1 hf dX3_join_51
    · refine lv_iconst (v := 0) hx hb dX3_join_16 (by decide) ?_
      exact m_zretc C hI zb_0 hf dX3_join_17
/-! costOf(I)I -/
abbrev rmM_costOf : Room := { frames := 4, cells := 0, slots := 0, locals := 95 }
def fM_costOf (N : Nat) (x : MS) (l1 : Int32) : Option (Int32 × MS) :=
  b2 (fM_says N x 23 l1 3 99) fun v2 x1 =>
  some (v2, x1)
theorem mm_costOf (l : Launch) (N : Nat) {w : mO} {A : Nat → Prop} : ∀ (x : MS) (l1 : Int32) (r : Int32) (xr : MS), fM_costOf N x l1 = some (r, xr) → mMet l yX3_costOf (ws_ yX3_costOf cX3_costOf 2 (some .int)) rmM_costOf [.ref (w.2.2.1 28), .int l1] w A x (some (.int r)) xr := by
  intro x l1 r xr hf
  refine m_start (cc := cX3_costOf) (by decide +kernel) rfl (Nat.le_of_ble_eq_true rfl) rfl ?_
  intro p e s m args below meth c ls H locs C hI hl
  have hx := C.1.1
  have hb := C.1.2.1
  have hown := C.1.2.2.2.1
  have hts := C.1.2.2.2.2.1
  have hE := C.2.2
  rw [fM_costOf] at hf
  refine lv_aload_n hx hb dX3_costOf_0 rfl (lv_at hl 0 rfl) ?_
  refine lv_bipush (v := 23) hx hb dX3_costOf_1 (by decide) ?_
  refine lv_iload_n hx hb dX3_costOf_3 rfl (lv_at hl 1 rfl) ?_
  refine lv_iconst (v := 3) hx hb dX3_costOf_4 (by decide) ?_
  refine lv_bipush (v := 99) hx hb dX3_costOf_5 (by decide) ?_
  refine m_calli (rest := []) C hI hf (mm_says l N _ _ _ _ _) rfl cqM_says ⟨rfl, rfl⟩ ⟨Nat.le_of_ble_eq_true rfl, Nat.le_of_ble_eq_true rfl⟩ rfl hl.1 rfl (Nat.le_of_ble_eq_true rfl) dX3_costOf_7 (fun v2 x1 H locs hI hf => ?_)
  exact m_iret C hI hf dX3_costOf_10
/-! does(I)V -/
abbrev rmM_does : Room := { frames := 6, cells := 0, slots := 0, locals := 140 }
def fM_does (N : Nat) (x : MS) (l1 : Int32) : Option MS :=
  (rd 1725 (gA x 0) (l1 + 2)).bind fun v1 =>
  (rd 1725 (gA x 0) (l1 + 1)).bind fun v2 =>
  if v2 = 8 then
    b2 (fM_canAsk N x v1) fun v5 x4 =>
    if v5 = 0 then
      some x4
    else
      (rd 1725 (gA x4 0) (l1 + 4)).bind fun v6 =>
      b2 (fM_asks N x4 v1 v6) fun v8 x7 =>
      some x7
  else if v2 = 9 then
    b2 (fM_canBridge N x v1) fun v11 x10 =>
    if v11 = 0 then
      some x10
    else
      (fM_bridges0 N x10 v1).bind fun x12 =>
      some x12
  else if v2 = 10 then
    (rd 1725 (gA x 0) (l1 + 3)).bind fun v14 =>
    (rd 1725 (gA x 0) (l1 + 4)).bind fun v15 =>
    b2 (fM_canPay0 N x v1 v14 v15) fun v17 x16 =>
    if v17 = 0 then
      some x16
    else
      (rd 1725 (gA x16 0) (l1 + 3)).bind fun v18 =>
      (rd 1725 (gA x16 0) (l1 + 4)).bind fun v19 =>
      (fM_pays N x16 v1 v18 v19).bind fun x20 =>
      some x20
  else 
    b2 (fM_canPaper N x v1) fun v22 x21 =>
  if v22 = 0 then
    some x21
  else
    (fM_getsReady N x21 v1).bind fun x23 =>
    some x23
theorem mm_does (l : Launch) (N : Nat) {w : mO} {A : Nat → Prop} : ∀ (x : MS) (l1 : Int32) (xr : MS), fM_does N x l1 = some xr → mMet l yX3_does (ws_ yX3_does cX3_does 3 none) rmM_does [.ref (w.2.2.1 28), .int l1] w A x none xr := by
  intro x l1 xr hf
  refine m_start (cc := cX3_does) (by decide +kernel) rfl (Nat.le_of_ble_eq_true rfl) rfl ?_
  intro p e s m args below meth c ls H locs C hI hl
  have hx := C.1.1
  have hb := C.1.2.1
  have hown := C.1.2.2.2.1
  have hts := C.1.2.2.2.2.1
  have hE := C.2.2
  rw [fM_does] at hf
  refine lv_aload_n hx hb dX3_does_0 rfl (lv_at hl 0 rfl) ?_
  refine mg0 C hI dX3_does_1 ?_
  refine lv_iload_n hx hb dX3_does_4 rfl (lv_at hl 1 rfl) ?_
  refine lv_iconst (v := 2) hx hb dX3_does_5 (by decide) ?_
  refine lv_iadd hx hb dX3_does_6 ?_
  refine ma0 C hI hf dX3_does_7 (fun v1 hf => ?_)
  refine lv_istore_n (lv' := [(2, .int v1), (0, .ref (w.2.2.1 28)), (1, .int l1)]) hx hb dX3_does_8 rfl hl (by decide) rfl (fun ls hl => ?_)
  refine lv_aload_n hx hb dX3_does_9 rfl (lv_at hl 1 rfl) ?_
  refine mg0 C hI dX3_does_10 ?_
  refine lv_iload_n hx hb dX3_does_13 rfl (lv_at hl 2 rfl) ?_
  refine lv_iconst (v := 1) hx hb dX3_does_14 (by decide) ?_
  refine lv_iadd hx hb dX3_does_15 ?_
  refine ma0 C hI hf dX3_does_16 (fun v2 hf => ?_)
  refine b_tIn (k := 8) (j := 0) (tgt := 44) hx hb hf dX3_does_17 (by decide +kernel) rfl (by decide) (fun hf => ?_) (fun h3 hf => ?_)
  · refine lv_aload_n hx hb dX3_does_44 rfl (lv_at hl 1 rfl) ?_
    refine lv_iload_n hx hb dX3_does_45 rfl (lv_at hl 0 rfl) ?_
    refine m_calli (rest := []) C hI hf (mm_canAsk l N _ _) rfl cqM_canAsk ⟨rfl, rfl⟩ ⟨Nat.le_of_ble_eq_true rfl, Nat.le_of_ble_eq_true rfl⟩ rfl hl.1 rfl (Nat.le_of_ble_eq_true rfl) dX3_does_46 (fun v5 x4 H locs hI hf => ?_)
    refine b_ifeq (tgt := 146) hx hb hf dX3_does_49 (by decide) (fun hf => ?_) (fun hf => ?_)
    · exact m_vret C hI hf dX3_does_146
    · refine lv_aload_n hx hb dX3_does_52 rfl (lv_at hl 1 rfl) ?_
      refine lv_iload_n hx hb dX3_does_53 rfl (lv_at hl 0 rfl) ?_
      refine lv_aload_n hx hb dX3_does_54 rfl (lv_at hl 1 rfl) ?_
      refine mg0 C hI dX3_does_55 ?_
      refine lv_iload_n hx hb dX3_does_58 rfl (lv_at hl 2 rfl) ?_
      refine lv_iconst (v := 4) hx hb dX3_does_59 (by decide) ?_
      refine lv_iadd hx hb dX3_does_60 ?_
      refine ma0 C hI hf dX3_does_61 (fun v6 hf => ?_)
      refine m_calli (rest := []) C hI hf (mm_asks l N _ _ _) rfl cqM_asks ⟨rfl, rfl⟩ ⟨Nat.le_of_ble_eq_true rfl, Nat.le_of_ble_eq_true rfl⟩ rfl hl.1 rfl (Nat.le_of_ble_eq_true rfl) dX3_does_62 (fun v8 x7 H locs hI hf => ?_)
      refine lv_pop hx hb dX3_does_65 rfl ?_
      refine lv_goto (tgt := 146) hx hb dX3_does_66 (by decide) ?_
      exact m_vret C hI hf dX3_does_146
  refine b_tIn (k := 9) (j := 1) (tgt := 69) hx hb hf dX3_does_17 (by decide +kernel) rfl (by decide) (fun hf => ?_) (fun h9 hf => ?_)
  · refine lv_aload_n hx hb dX3_does_69 rfl (lv_at hl 1 rfl) ?_
    refine lv_iload_n hx hb dX3_does_70 rfl (lv_at hl 0 rfl) ?_
    refine m_calli (rest := []) C hI hf (mm_canBridge l N _ _) rfl cqM_canBridge ⟨rfl, rfl⟩ ⟨Nat.le_of_ble_eq_true rfl, Nat.le_of_ble_eq_true rfl⟩ rfl hl.1 rfl (Nat.le_of_ble_eq_true rfl) dX3_does_71 (fun v11 x10 H locs hI hf => ?_)
    refine b_ifeq (tgt := 146) hx hb hf dX3_does_74 (by decide) (fun hf => ?_) (fun hf => ?_)
    · exact m_vret C hI hf dX3_does_146
    · refine lv_aload_n hx hb dX3_does_77 rfl (lv_at hl 1 rfl) ?_
      refine lv_iload_n hx hb dX3_does_78 rfl (lv_at hl 0 rfl) ?_
      refine m_callv (rest := []) C hI hf (mm_bridges0 l N _ _) rfl cqM_bridges0 ⟨rfl, rfl⟩ ⟨Nat.le_of_ble_eq_true rfl, Nat.le_of_ble_eq_true rfl⟩ rfl hl.1 rfl (Nat.le_of_ble_eq_true rfl) dX3_does_79 (fun x12 H locs hI hf => ?_)
      refine lv_goto (tgt := 146) hx hb dX3_does_82 (by decide) ?_
      exact m_vret C hI hf dX3_does_146
  refine b_tIn (k := 10) (j := 2) (tgt := 85) hx hb hf dX3_does_17 (by decide +kernel) rfl (by decide) (fun hf => ?_) (fun h13 hf => ?_)
  · refine lv_aload_n hx hb dX3_does_85 rfl (lv_at hl 1 rfl) ?_
    refine lv_iload_n hx hb dX3_does_86 rfl (lv_at hl 0 rfl) ?_
    refine lv_aload_n hx hb dX3_does_87 rfl (lv_at hl 1 rfl) ?_
    refine mg0 C hI dX3_does_88 ?_
    refine lv_iload_n hx hb dX3_does_91 rfl (lv_at hl 2 rfl) ?_
    refine lv_iconst (v := 3) hx hb dX3_does_92 (by decide) ?_
    refine lv_iadd hx hb dX3_does_93 ?_
    refine ma0 C hI hf dX3_does_94 (fun v14 hf => ?_)
    refine lv_aload_n hx hb dX3_does_95 rfl (lv_at hl 1 rfl) ?_
    refine mg0 C hI dX3_does_96 ?_
    refine lv_iload_n hx hb dX3_does_99 rfl (lv_at hl 2 rfl) ?_
    refine lv_iconst (v := 4) hx hb dX3_does_100 (by decide) ?_
    refine lv_iadd hx hb dX3_does_101 ?_
    refine ma0 C hI hf dX3_does_102 (fun v15 hf => ?_)
    refine m_calli (rest := []) C hI hf (mm_canPay0 l N _ _ _ _) rfl cqM_canPay0 ⟨rfl, rfl⟩ ⟨Nat.le_of_ble_eq_true rfl, Nat.le_of_ble_eq_true rfl⟩ rfl hl.1 rfl (Nat.le_of_ble_eq_true rfl) dX3_does_103 (fun v17 x16 H locs hI hf => ?_)
    refine b_ifeq (tgt := 146) hx hb hf dX3_does_106 (by decide) (fun hf => ?_) (fun hf => ?_)
    · exact m_vret C hI hf dX3_does_146
    · refine lv_aload_n hx hb dX3_does_109 rfl (lv_at hl 1 rfl) ?_
      refine lv_iload_n hx hb dX3_does_110 rfl (lv_at hl 0 rfl) ?_
      refine lv_aload_n hx hb dX3_does_111 rfl (lv_at hl 1 rfl) ?_
      refine mg0 C hI dX3_does_112 ?_
      refine lv_iload_n hx hb dX3_does_115 rfl (lv_at hl 2 rfl) ?_
      refine lv_iconst (v := 3) hx hb dX3_does_116 (by decide) ?_
      refine lv_iadd hx hb dX3_does_117 ?_
      refine ma0 C hI hf dX3_does_118 (fun v18 hf => ?_)
      refine lv_aload_n hx hb dX3_does_119 rfl (lv_at hl 1 rfl) ?_
      refine mg0 C hI dX3_does_120 ?_
      refine lv_iload_n hx hb dX3_does_123 rfl (lv_at hl 2 rfl) ?_
      refine lv_iconst (v := 4) hx hb dX3_does_124 (by decide) ?_
      refine lv_iadd hx hb dX3_does_125 ?_
      refine ma0 C hI hf dX3_does_126 (fun v19 hf => ?_)
      refine m_callv (rest := []) C hI hf (mm_pays l N _ _ _ _) rfl cqM_pays ⟨rfl, rfl⟩ ⟨Nat.le_of_ble_eq_true rfl, Nat.le_of_ble_eq_true rfl⟩ rfl hl.1 rfl (Nat.le_of_ble_eq_true rfl) dX3_does_127 (fun x20 H locs hI hf => ?_)
      refine lv_goto (tgt := 146) hx hb dX3_does_130 (by decide) ?_
      exact m_vret C hI hf dX3_does_146
  have h3 : v2.toInt ≠ 8 := sw_ne h3
  have h9 : v2.toInt ≠ 9 := sw_ne h9
  have h13 : v2.toInt ≠ 10 := sw_ne h13
  refine lv_tableOut (tgt := 133) hx hb dX3_does_17 (by omega) (by decide) ?_
  refine lv_aload_n hx hb dX3_does_133 rfl (lv_at hl 1 rfl) ?_
  refine lv_iload_n hx hb dX3_does_134 rfl (lv_at hl 0 rfl) ?_
  refine m_calli (rest := []) C hI hf (mm_canPaper l N _ _) rfl cqM_canPaper ⟨rfl, rfl⟩ ⟨Nat.le_of_ble_eq_true rfl, Nat.le_of_ble_eq_true rfl⟩ rfl hl.1 rfl (Nat.le_of_ble_eq_true rfl) dX3_does_135 (fun v22 x21 H locs hI hf => ?_)
  refine b_ifeq (tgt := 146) hx hb hf dX3_does_138 (by decide) (fun hf => ?_) (fun hf => ?_)
  · exact m_vret C hI hf dX3_does_146
  · refine lv_aload_n hx hb dX3_does_141 rfl (lv_at hl 1 rfl) ?_
    refine lv_iload_n hx hb dX3_does_142 rfl (lv_at hl 0 rfl) ?_
    refine m_callv (rest := []) C hI hf (mm_getsReady l N _ _) rfl cqM_getsReady ⟨rfl, rfl⟩ ⟨Nat.le_of_ble_eq_true rfl, Nat.le_of_ble_eq_true rfl⟩ rfl hl.1 rfl (Nat.le_of_ble_eq_true rfl) dX3_does_143 (fun x23 H locs hI hf => ?_)
    exact m_vret C hI hf dX3_does_146
/-! draw(I)I -/
abbrev rmM_draw : Room := { frames := 0, cells := 0, slots := 0, locals := 0 }
def fM_draw (N : Nat) (x : MS) (l1 : Int32) : Option (Int32 × MS) :=
  (wr x 0 1725 2 ((1664525 * (gA x 0 2)) + 1013904223)).bind fun x1 =>
  (rm_ (ush (gA x1 0 2) 8) l1).bind fun v2 =>
  some (v2, x1)
theorem mm_draw (l : Launch) (N : Nat) {w : mO} {A : Nat → Prop} : ∀ (x : MS) (l1 : Int32) (r : Int32) (xr : MS), fM_draw N x l1 = some (r, xr) → mMet l yX3_draw (ws_ yX3_draw cX3_draw 2 (some .int)) rmM_draw [.ref (w.2.2.1 28), .int l1] w A x (some (.int r)) xr := by
  intro x l1 r xr hf
  refine m_start (cc := cX3_draw) (by decide +kernel) rfl (Nat.le_of_ble_eq_true rfl) rfl ?_
  intro p e s m args below meth c ls H locs C hI hl
  have hx := C.1.1
  have hb := C.1.2.1
  have hown := C.1.2.2.2.1
  have hts := C.1.2.2.2.2.1
  have hE := C.2.2
  rw [fM_draw] at hf
  refine lv_aload_n hx hb dX3_draw_0 rfl (lv_at hl 0 rfl) ?_
  refine mg0 C hI dX3_draw_1 ?_
  refine lv_iconst (v := 2) hx hb dX3_draw_4 (by decide) ?_
  refine lv_ldc hx hb hown (hts _ q1795) dX3_draw_5 ?_
  refine lv_aload_n hx hb dX3_draw_7 rfl (lv_at hl 0 rfl) ?_
  refine mg0 C hI dX3_draw_8 ?_
  refine lv_iconst (v := 2) hx hb dX3_draw_11 (by decide) ?_
  refine mac0 C hI rc1725_2 dX3_draw_12 ?_
  refine lv_imul hx hb dX3_draw_13 ?_
  refine lv_ldc hx hb hown (hts _ q1796) dX3_draw_14 ?_
  refine lv_iadd hx hb dX3_draw_16 ?_
  refine ms0 C hI hf dX3_draw_17 (fun x1 H locs hI hf => ?_)
  refine lv_aload_n hx hb dX3_draw_18 rfl (lv_at hl 0 rfl) ?_
  refine mg0 C hI dX3_draw_19 ?_
  refine lv_iconst (v := 2) hx hb dX3_draw_22 (by decide) ?_
  refine mac0 C hI rc1725_2 dX3_draw_23 ?_
  refine lv_bipush (v := 8) hx hb dX3_draw_24 (by decide) ?_
  refine lv_iushr (v := ush (gA x1 0 2) 8) hx hb dX3_draw_26 rfl ?_
  refine lv_iload_n hx hb dX3_draw_27 rfl (lv_at hl 1 rfl) ?_
  refine b_irem hx hb hf dX3_draw_28 (fun v2 hf => ?_)
  exact m_iret C hI hf dX3_draw_29
/-! falls(I)Z -/
abbrev rmM_falls : Room := { frames := 1, cells := 0, slots := 0, locals := 21 }
def fM_falls (N : Nat) (x : MS) (l1 : Int32) : Option (Int32 × MS) :=
  if (gS x 26) = 0 then
    if l1 < 500 then
      some (0, x)
    else
      some (1, x)
  else
    b2 (fM_draw N x 1000) fun v2 x1 =>
    if l1 ≤ v2 then
      some (0, x1)
    else
      some (1, x1)
theorem mm_falls (l : Launch) (N : Nat) {w : mO} {A : Nat → Prop} : ∀ (x : MS) (l1 : Int32) (r : Int32) (xr : MS), fM_falls N x l1 = some (r, xr) → mMet l yX3_falls (ws_ yX3_falls cX3_falls 2 (some .boolean)) rmM_falls [.ref (w.2.2.1 28), .int l1] w A x (some (.int r)) xr := by
  intro x l1 r xr hf
  refine m_start (cc := cX3_falls) (by decide +kernel) rfl (Nat.le_of_ble_eq_true rfl) rfl ?_
  intro p e s m args below meth c ls H locs C hI hl
  have hx := C.1.1
  have hb := C.1.2.1
  have hown := C.1.2.2.2.1
  have hts := C.1.2.2.2.2.1
  have hE := C.2.2
  rw [fM_falls] at hf
  refine lv_aload_n hx hb dX3_falls_0 rfl (lv_at hl 0 rfl) ?_
  refine mg26 C hI dX3_falls_1 ?_
  refine b_ifeq (tgt := 26) hx hb hf dX3_falls_4 (by decide) (fun hf => ?_) (fun hf => ?_)
  · refine lv_iload_n hx hb dX3_falls_26 rfl (lv_at hl 1 rfl) ?_
    refine lv_sipush (v := 500) hx hb dX3_falls_27 (by decide) ?_
    refine b_iclt (tgt := 37) hx hb hf dX3_falls_30 (by decide) (fun hf => ?_) (fun hf => ?_)
    · refine lv_iconst (v := 0) hx hb dX3_falls_37 (by decide) ?_
      exact m_zretc C hI zb_0 hf dX3_falls_38
    · refine lv_iconst (v := 1) hx hb dX3_falls_33 (by decide) ?_
      refine lv_goto (tgt := 38) hx hb dX3_falls_34 (by decide) ?_
      exact m_zretc C hI zb_1 hf dX3_falls_38
  · refine lv_aload_n hx hb dX3_falls_7 rfl (lv_at hl 0 rfl) ?_
    refine lv_sipush (v := 1000) hx hb dX3_falls_8 (by decide) ?_
    refine m_calli (rest := []) C hI hf (mm_draw l N _ _) rfl cqM_draw ⟨rfl, rfl⟩ ⟨Nat.le_of_ble_eq_true rfl, Nat.le_of_ble_eq_true rfl⟩ rfl hl.1 rfl (Nat.le_of_ble_eq_true rfl) dX3_falls_11 (fun v2 x1 H locs hI hf => ?_)
    refine lv_iload_n hx hb dX3_falls_14 rfl (lv_at hl 1 rfl) ?_
    refine b_icge (tgt := 22) hx hb hf dX3_falls_15 (by decide) (fun hf => ?_) (fun hf => ?_)
    · refine lv_iconst (v := 0) hx hb dX3_falls_22 (by decide) ?_
      refine lv_goto (tgt := 38) hx hb dX3_falls_23 (by decide) ?_
      exact m_zretc C hI zb_0 hf dX3_falls_38
    · refine lv_iconst (v := 1) hx hb dX3_falls_18 (by decide) ?_
      refine lv_goto (tgt := 38) hx hb dX3_falls_19 (by decide) ?_
      exact m_zretc C hI zb_1 hf dX3_falls_38
/-! leaveOf(I)I -/
abbrev rmM_leaveOf : Room := { frames := 4, cells := 0, slots := 0, locals := 95 }
def fM_leaveOf (N : Nat) (x : MS) (l1 : Int32) : Option (Int32 × MS) :=
  b2 (fM_says N x 21 l1 0 1000) fun v2 x1 =>
  some (v2, x1)
theorem mm_leaveOf (l : Launch) (N : Nat) {w : mO} {A : Nat → Prop} : ∀ (x : MS) (l1 : Int32) (r : Int32) (xr : MS), fM_leaveOf N x l1 = some (r, xr) → mMet l yX3_leaveOf (ws_ yX3_leaveOf cX3_leaveOf 2 (some .int)) rmM_leaveOf [.ref (w.2.2.1 28), .int l1] w A x (some (.int r)) xr := by
  intro x l1 r xr hf
  refine m_start (cc := cX3_leaveOf) (by decide +kernel) rfl (Nat.le_of_ble_eq_true rfl) rfl ?_
  intro p e s m args below meth c ls H locs C hI hl
  have hx := C.1.1
  have hb := C.1.2.1
  have hown := C.1.2.2.2.1
  have hts := C.1.2.2.2.2.1
  have hE := C.2.2
  rw [fM_leaveOf] at hf
  refine lv_aload_n hx hb dX3_leaveOf_0 rfl (lv_at hl 0 rfl) ?_
  refine lv_bipush (v := 21) hx hb dX3_leaveOf_1 (by decide) ?_
  refine lv_iload_n hx hb dX3_leaveOf_3 rfl (lv_at hl 1 rfl) ?_
  refine lv_iconst (v := 0) hx hb dX3_leaveOf_4 (by decide) ?_
  refine lv_sipush (v := 1000) hx hb dX3_leaveOf_5 (by decide) ?_
  refine m_calli (rest := []) C hI hf (mm_says l N _ _ _ _ _) rfl cqM_says ⟨rfl, rfl⟩ ⟨Nat.le_of_ble_eq_true rfl, Nat.le_of_ble_eq_true rfl⟩ rfl hl.1 rfl (Nat.le_of_ble_eq_true rfl) dX3_leaveOf_8 (fun v2 x1 H locs hI hf => ?_)
  exact m_iret C hI hf dX3_leaveOf_11
/-! unreadies(I)V -/
abbrev rmM_unreadies : Room := { frames := 2, cells := 0, slots := 0, locals := 43 }
def fM_unreadies (N : Nat) (x : MS) (l1 : Int32) : Option MS :=
  b2 (fM_isLink N x l1) fun v2 x1 =>
  if v2 = 0 then
    some x1
  else
    b2 (fM_hasMoved N x1 l1) fun v4 x3 =>
    if v4 = 0 then
      (wr x3 0 1725 (40 + l1) 0).bind fun x5 =>
      some x5
    else
      some x3
theorem mm_unreadies (l : Launch) (N : Nat) {w : mO} {A : Nat → Prop} : ∀ (x : MS) (l1 : Int32) (xr : MS), fM_unreadies N x l1 = some xr → mMet l yX3_unreadies (ws_ yX3_unreadies cX3_unreadies 2 none) rmM_unreadies [.ref (w.2.2.1 28), .int l1] w A x none xr := by
  intro x l1 xr hf
  refine m_start (cc := cX3_unreadies) (by decide +kernel) rfl (Nat.le_of_ble_eq_true rfl) rfl ?_
  intro p e s m args below meth c ls H locs C hI hl
  have hx := C.1.1
  have hb := C.1.2.1
  have hown := C.1.2.2.2.1
  have hts := C.1.2.2.2.2.1
  have hE := C.2.2
  rw [fM_unreadies] at hf
  refine lv_aload_n hx hb dX3_unreadies_0 rfl (lv_at hl 0 rfl) ?_
  refine lv_iload_n hx hb dX3_unreadies_1 rfl (lv_at hl 1 rfl) ?_
  refine m_calli (rest := []) C hI hf (mm_isLink l N _ _) rfl cqM_isLink ⟨rfl, rfl⟩ ⟨Nat.le_of_ble_eq_true rfl, Nat.le_of_ble_eq_true rfl⟩ rfl hl.1 rfl (Nat.le_of_ble_eq_true rfl) dX3_unreadies_2 (fun v2 x1 H locs hI hf => ?_)
  refine b_ifeq (tgt := 26) hx hb hf dX3_unreadies_5 (by decide) (fun hf => ?_) (fun hf => ?_)
  · exact m_vret C hI hf dX3_unreadies_26
  · refine lv_aload_n hx hb dX3_unreadies_8 rfl (lv_at hl 0 rfl) ?_
    refine lv_iload_n hx hb dX3_unreadies_9 rfl (lv_at hl 1 rfl) ?_
    refine m_calli (rest := []) C hI hf (mm_hasMoved l N _ _) rfl cqM_hasMoved ⟨rfl, rfl⟩ ⟨Nat.le_of_ble_eq_true rfl, Nat.le_of_ble_eq_true rfl⟩ rfl hl.1 rfl (Nat.le_of_ble_eq_true rfl) dX3_unreadies_10 (fun v4 x3 H locs hI hf => ?_)
    refine b_ifne (tgt := 26) hx hb hf dX3_unreadies_13 (by decide) (fun hf => ?_) (fun hf => ?_)
    · exact m_vret C hI hf dX3_unreadies_26
    · refine lv_aload_n hx hb dX3_unreadies_16 rfl (lv_at hl 0 rfl) ?_
      refine mg0 C hI dX3_unreadies_17 ?_
      refine lv_bipush (v := 40) hx hb dX3_unreadies_20 (by decide) ?_
      refine lv_iload_n hx hb dX3_unreadies_22 rfl (lv_at hl 1 rfl) ?_
      refine lv_iadd hx hb dX3_unreadies_23 ?_
      refine lv_iconst (v := 0) hx hb dX3_unreadies_24 (by decide) ?_
      refine ms0 C hI hf dX3_unreadies_25 (fun x5 H locs hI hf => ?_)
      exact m_vret C hI hf dX3_unreadies_26
/-! leaves(I)V -/
abbrev rmM_leaves : Room := { frames := 3, cells := 0, slots := 0, locals := 64 }
def fM_leaves (N : Nat) (x : MS) (l1 : Int32) : Option MS :=
  (wr x 0 1725 (52 + l1) 1).bind fun x1 =>
  (wr x1 0 1725 1 ((gA x1 0 1) + 1)).bind fun x2 =>
  (wr x2 0 1725 (40 + l1) 0).bind fun x3 =>
  (fM_unreadies N x3 (l1 - 1)).bind fun x4 =>
  (fM_unreadies N x4 (l1 + 1)).bind fun x5 =>
  (fM_notes N x5 4 l1 0).bind fun x6 =>
  some x6
theorem mm_leaves (l : Launch) (N : Nat) {w : mO} {A : Nat → Prop} : ∀ (x : MS) (l1 : Int32) (xr : MS), fM_leaves N x l1 = some xr → mMet l yX3_leaves (ws_ yX3_leaves cX3_leaves 2 none) rmM_leaves [.ref (w.2.2.1 28), .int l1] w A x none xr := by
  intro x l1 xr hf
  refine m_start (cc := cX3_leaves) (by decide +kernel) rfl (Nat.le_of_ble_eq_true rfl) rfl ?_
  intro p e s m args below meth c ls H locs C hI hl
  have hx := C.1.1
  have hb := C.1.2.1
  have hown := C.1.2.2.2.1
  have hts := C.1.2.2.2.2.1
  have hE := C.2.2
  rw [fM_leaves] at hf
  refine lv_aload_n hx hb dX3_leaves_0 rfl (lv_at hl 0 rfl) ?_
  refine mg0 C hI dX3_leaves_1 ?_
  refine lv_bipush (v := 52) hx hb dX3_leaves_4 (by decide) ?_
  refine lv_iload_n hx hb dX3_leaves_6 rfl (lv_at hl 1 rfl) ?_
  refine lv_iadd hx hb dX3_leaves_7 ?_
  refine lv_iconst (v := 1) hx hb dX3_leaves_8 (by decide) ?_
  refine ms0 C hI hf dX3_leaves_9 (fun x1 H locs hI hf => ?_)
  refine lv_aload_n hx hb dX3_leaves_10 rfl (lv_at hl 0 rfl) ?_
  refine mg0 C hI dX3_leaves_11 ?_
  refine lv_iconst (v := 1) hx hb dX3_leaves_14 (by decide) ?_
  refine lv_dup2_11 hx hb dX3_leaves_15 rfl rfl ?_
  refine mac0 C hI rc1725_1 dX3_leaves_16 ?_
  refine lv_iconst (v := 1) hx hb dX3_leaves_17 (by decide) ?_
  refine lv_iadd hx hb dX3_leaves_18 ?_
  refine ms0 C hI hf dX3_leaves_19 (fun x2 H locs hI hf => ?_)
  refine lv_aload_n hx hb dX3_leaves_20 rfl (lv_at hl 0 rfl) ?_
  refine mg0 C hI dX3_leaves_21 ?_
  refine lv_bipush (v := 40) hx hb dX3_leaves_24 (by decide) ?_
  refine lv_iload_n hx hb dX3_leaves_26 rfl (lv_at hl 1 rfl) ?_
  refine lv_iadd hx hb dX3_leaves_27 ?_
  refine lv_iconst (v := 0) hx hb dX3_leaves_28 (by decide) ?_
  refine ms0 C hI hf dX3_leaves_29 (fun x3 H locs hI hf => ?_)
  refine lv_aload_n hx hb dX3_leaves_30 rfl (lv_at hl 0 rfl) ?_
  refine lv_iload_n hx hb dX3_leaves_31 rfl (lv_at hl 1 rfl) ?_
  refine lv_iconst (v := 1) hx hb dX3_leaves_32 (by decide) ?_
  refine lv_isub hx hb dX3_leaves_33 ?_
  refine m_callv (rest := []) C hI hf (mm_unreadies l N _ _) rfl cqM_unreadies ⟨rfl, rfl⟩ ⟨Nat.le_of_ble_eq_true rfl, Nat.le_of_ble_eq_true rfl⟩ rfl hl.1 rfl (Nat.le_of_ble_eq_true rfl) dX3_leaves_34 (fun x4 H locs hI hf => ?_)
  refine lv_aload_n hx hb dX3_leaves_37 rfl (lv_at hl 0 rfl) ?_
  refine lv_iload_n hx hb dX3_leaves_38 rfl (lv_at hl 1 rfl) ?_
  refine lv_iconst (v := 1) hx hb dX3_leaves_39 (by decide) ?_
  refine lv_iadd hx hb dX3_leaves_40 ?_
  refine m_callv (rest := []) C hI hf (mm_unreadies l N _ _) rfl cqM_unreadies ⟨rfl, rfl⟩ ⟨Nat.le_of_ble_eq_true rfl, Nat.le_of_ble_eq_true rfl⟩ rfl hl.1 rfl (Nat.le_of_ble_eq_true rfl) dX3_leaves_41 (fun x5 H locs hI hf => ?_)
  refine lv_aload_n hx hb dX3_leaves_44 rfl (lv_at hl 0 rfl) ?_
  refine lv_iconst (v := 4) hx hb dX3_leaves_45 (by decide) ?_
  refine lv_iload_n hx hb dX3_leaves_46 rfl (lv_at hl 1 rfl) ?_
  refine lv_iconst (v := 0) hx hb dX3_leaves_47 (by decide) ?_
  refine m_callv (rest := []) C hI hf (mm_notes l N _ _ _ _) rfl cqM_notes ⟨rfl, rfl⟩ ⟨Nat.le_of_ble_eq_true rfl, Nat.le_of_ble_eq_true rfl⟩ rfl hl.1 rfl (Nat.le_of_ble_eq_true rfl) dX3_leaves_48 (fun x6 H locs hI hf => ?_)
  exact m_vret C hI hf dX3_leaves_51
/-! canPay(I)Z -/
abbrev rmM_canPay : Room := { frames := 0, cells := 0, slots := 0, locals := 0 }
def fM_canPay_b50 (N : Nat) (x : MS) (s0 : Int32) (s1 : Int32) (s2 : Int32) : Option (Int32 × MS) :=
  lt (if (s1 + s2) < s0 then 0 else 1 : Int32) fun v1 =>
  some (zb v1, x)
theorem w_fM_canPay_b50 {N : Nat} {r : Int32} {xr : MS} (C : mC w A p s m args meth c cX3_canPay 2 (some .boolean)) : ∀ (x : MS) (s0 : Int32) (s1 : Int32) (s2 : Int32) (H : Heap) (locs : List Loc) (ls : Array Slot), mI w A x s.heap H locs → lv_has ls 2 [] → fM_canPay_b50 N x s0 s1 s2 = some (r, xr) → W p l e rmM_canPay s m args below meth c H locs 0 0 (MQ below (mQ w A (some (.int r)) xr) args s 0 0 A) (F0 m 50 ls [.int s2, .int s1, .int s0]) := by
  have hx := C.1.1
  have hb := C.1.2.1
  have hown := C.1.2.2.2.1
  have hts := C.1.2.2.2.2.1
  have hE := C.2.2
  intro x s0 s1 s2 H locs ls hI hl hf
  rw [fM_canPay_b50] at hf
  refine lv_iadd hx hb dX3_canPay_50 ?_
  suffices hJ : ∀ v1 : Int32, (v1 = (if (s1 + s2) < s0 then 0 else 1 : Int32)) → W p l e rmM_canPay s m args below meth c H locs 0 0 (MQ below (mQ w A (some (.int r)) xr) args s 0 0 A) (F0 m 59 ls [.int v1]) by
    refine lv_icmp_gt (tgt := 58) hx hb dX3_canPay_51 (by decide) (fun hc => ?_) (fun hc => ?_)
    · refine lv_iconst (v := 0) hx hb dX3_canPay_58 (by decide) ?_
      exact hJ _ (if_pos hc).symm
    · refine lv_iconst (v := 1) hx hb dX3_canPay_54 (by decide) ?_
      refine lv_goto (tgt := 59) hx hb dX3_canPay_55 (by decide) ?_
      exact hJ _ (if_neg hc).symm
  intro v1 hv
  have hf := lt_of hv hf
  exact m_zret C hI hf dX3_canPay_59
def fM_canPay (N : Nat) (x : MS) (l1 : Int32) : Option (Int32 × MS) :=
  if l1 = ((gA x 0 88) - 1) then
    some (1, x)
  else
    (rd 1725 (gA x 0) ((4 + l1) + 1)).bind fun v1 =>
    (rd 1725 (gA x 0) (16 + l1)).bind fun v2 =>
    if l1 = 0 then
      fM_canPay_b50 N x v1 v2 0
    else
      (rd 1725 (gA x 0) (4 + l1)).bind fun v3 =>
      fM_canPay_b50 N x v1 v2 v3
theorem mm_canPay (l : Launch) (N : Nat) {w : mO} {A : Nat → Prop} : ∀ (x : MS) (l1 : Int32) (r : Int32) (xr : MS), fM_canPay N x l1 = some (r, xr) → mMet l yX3_canPay (ws_ yX3_canPay cX3_canPay 2 (some .boolean)) rmM_canPay [.ref (w.2.2.1 28), .int l1] w A x (some (.int r)) xr := by
  intro x l1 r xr hf
  refine m_start (cc := cX3_canPay) (by decide +kernel) rfl (Nat.le_of_ble_eq_true rfl) rfl ?_
  intro p e s m args below meth c ls H locs C hI hl
  have hx := C.1.1
  have hb := C.1.2.1
  have hown := C.1.2.2.2.1
  have hts := C.1.2.2.2.2.1
  have hE := C.2.2
  rw [fM_canPay] at hf
  refine lv_iload_n hx hb dX3_canPay_0 rfl (lv_at hl 1 rfl) ?_
  refine lv_aload_n hx hb dX3_canPay_1 rfl (lv_at hl 0 rfl) ?_
  refine mg0 C hI dX3_canPay_2 ?_
  refine lv_bipush (v := 88) hx hb dX3_canPay_5 (by decide) ?_
  refine mac0 C hI rc1725_88 dX3_canPay_7 ?_
  refine lv_iconst (v := 1) hx hb dX3_canPay_8 (by decide) ?_
  refine lv_isub hx hb dX3_canPay_9 ?_
  refine b_icne (tgt := 15) hx hb hf dX3_canPay_10 (by decide) (fun hf => ?_) (fun hf => ?_)
  · refine lv_aload_n hx hb dX3_canPay_15 rfl (lv_at hl 0 rfl) ?_
    refine mg0 C hI dX3_canPay_16 ?_
    refine lv_iconst (v := 4) hx hb dX3_canPay_19 (by decide) ?_
    refine lv_iload_n hx hb dX3_canPay_20 rfl (lv_at hl 1 rfl) ?_
    refine lv_iadd hx hb dX3_canPay_21 ?_
    refine lv_iconst (v := 1) hx hb dX3_canPay_22 (by decide) ?_
    refine lv_iadd hx hb dX3_canPay_23 ?_
    refine ma0 C hI hf dX3_canPay_24 (fun v1 hf => ?_)
    refine lv_aload_n hx hb dX3_canPay_25 rfl (lv_at hl 0 rfl) ?_
    refine mg0 C hI dX3_canPay_26 ?_
    refine lv_bipush (v := 16) hx hb dX3_canPay_29 (by decide) ?_
    refine lv_iload_n hx hb dX3_canPay_31 rfl (lv_at hl 1 rfl) ?_
    refine lv_iadd hx hb dX3_canPay_32 ?_
    refine ma0 C hI hf dX3_canPay_33 (fun v2 hf => ?_)
    refine lv_iload_n hx hb dX3_canPay_34 rfl (lv_at hl 1 rfl) ?_
    refine b_ifne (tgt := 42) hx hb hf dX3_canPay_35 (by decide) (fun hf => ?_) (fun hf => ?_)
    · refine lv_aload_n hx hb dX3_canPay_42 rfl (lv_at hl 0 rfl) ?_
      refine mg0 C hI dX3_canPay_43 ?_
      refine lv_iconst (v := 4) hx hb dX3_canPay_46 (by decide) ?_
      refine lv_iload_n hx hb dX3_canPay_47 rfl (lv_at hl 1 rfl) ?_
      refine lv_iadd hx hb dX3_canPay_48 ?_
      refine ma0 C hI hf dX3_canPay_49 (fun v3 hf => ?_)
      exact w_fM_canPay_b50 C x v1 v2 v3 _ _ _ hI (lv_sub hl [] rfl) hf
    · refine lv_iconst (v := 0) hx hb dX3_canPay_38 (by decide) ?_
      refine lv_goto (tgt := 50) hx hb dX3_canPay_39 (by decide) ?_
      exact w_fM_canPay_b50 C x v1 v2 0 _ _ _ hI (lv_sub hl [] rfl) hf
  · refine lv_iconst (v := 1) hx hb dX3_canPay_13 (by decide) ?_
    exact m_zretc C hI zb_1 hf dX3_canPay_14
/-! canMove(II)Z -/
abbrev rmM_canMove : Room := { frames := 1, cells := 0, slots := 0, locals := 21 }
def fM_canMove_b2 (N : Nat) : Nat → MS → Int32 → Int32 → Option (Int32 × MS)
  | 0, _, _, _ => none
  | n + 1, x, l2, l3 =>
  if l2 < l3 then
    some (1, x)
  else
    b2 (fM_isReady N x l3) fun v2 x1 =>
    if v2 = 0 then
      some (0, x1)
    else
      b2 (fM_isOut N x1 l3) fun v4 x3 =>
      if v4 = 0 then
        if l2 ≤ l3 then
          fM_canMove_b2 N n x3 l2 (l3 + 1)
        else
          b2 (fM_canPay N x3 l3) fun v6 x5 =>
          if v6 = 0 then
            some (0, x5)
          else
            fM_canMove_b2 N n x5 l2 (l3 + 1)
      else
        some (0, x3)
theorem w_fM_canMove_b2 {N : Nat} {r : Int32} {xr : MS} (C : mC w A p s m args meth c cX3_canMove 4 (some .boolean)) : ∀ (n : Nat) (x : MS) (l2 : Int32) (l3 : Int32) (H : Heap) (locs : List Loc) (ls : Array Slot), mI w A x s.heap H locs → lv_has ls 4 [(0, .ref (w.2.2.1 28)), (2, .int l2), (3, .int l3)] → fM_canMove_b2 N n x l2 l3 = some (r, xr) → W p l e rmM_canMove s m args below meth c H locs 0 0 (MQ below (mQ w A (some (.int r)) xr) args s 0 0 A) (F0 m 2 ls []) := by
  have hx := C.1.1
  have hb := C.1.2.1
  have hown := C.1.2.2.2.1
  have hts := C.1.2.2.2.2.1
  have hE := C.2.2
  intro n
  induction n with
  | zero => intro x l2 l3 H locs ls hI hl hf; rw [fM_canMove_b2] at hf; cases hf
  | succ n ih =>
  intro x l2 l3 H locs ls hI hl hf
  rw [fM_canMove_b2] at hf
  refine lv_iload_n hx hb dX3_canMove_2 rfl (lv_at hl 2 rfl) ?_
  refine lv_iload_n hx hb dX3_canMove_3 rfl (lv_at hl 1 rfl) ?_
  refine b_icgt (tgt := 44) hx hb hf dX3_canMove_4 (by decide) (fun hf => ?_) (fun hf => ?_)
  · refine lv_iconst (v := 1) hx hb dX3_canMove_44 (by decide) ?_
    exact m_zretc C hI zb_1 hf dX3_canMove_45
  · refine lv_aload_n hx hb dX3_canMove_7 rfl (lv_at hl 0 rfl) ?_
    refine lv_iload_n hx hb dX3_canMove_8 rfl (lv_at hl 2 rfl) ?_
    refine m_calli (rest := []) C hI hf (mm_isReady l N _ _) rfl cqM_isReady ⟨rfl, rfl⟩ ⟨Nat.le_of_ble_eq_true rfl, Nat.le_of_ble_eq_true rfl⟩ rfl hl.1 rfl (Nat.le_of_ble_eq_true rfl) dX3_canMove_9 (fun v2 x1 H locs hI hf => ?_)
    refine b_ifeq (tgt := 36) hx hb hf dX3_canMove_12 (by decide) (fun hf => ?_) (fun hf => ?_)
    · refine lv_iconst (v := 0) hx hb dX3_canMove_36 (by decide) ?_
      exact m_zretc C hI zb_0 hf dX3_canMove_37
    · refine lv_aload_n hx hb dX3_canMove_15 rfl (lv_at hl 0 rfl) ?_
      refine lv_iload_n hx hb dX3_canMove_16 rfl (lv_at hl 2 rfl) ?_
      refine m_calli (rest := []) C hI hf (mm_isOut l N _ _) rfl cqM_isOut ⟨rfl, rfl⟩ ⟨Nat.le_of_ble_eq_true rfl, Nat.le_of_ble_eq_true rfl⟩ rfl hl.1 rfl (Nat.le_of_ble_eq_true rfl) dX3_canMove_17 (fun v4 x3 H locs hI hf => ?_)
      refine b_ifne (tgt := 36) hx hb hf dX3_canMove_20 (by decide) (fun hf => ?_) (fun hf => ?_)
      · refine lv_iconst (v := 0) hx hb dX3_canMove_36 (by decide) ?_
        exact m_zretc C hI zb_0 hf dX3_canMove_37
      · refine lv_iload_n hx hb dX3_canMove_23 rfl (lv_at hl 2 rfl) ?_
        refine lv_iload_n hx hb dX3_canMove_24 rfl (lv_at hl 1 rfl) ?_
        refine b_icge (tgt := 38) hx hb hf dX3_canMove_25 (by decide) (fun hf => ?_) (fun hf => ?_)
        · refine lv_iinc (v := l3 + 1) (lv' := [(3, .int (l3 + 1)), (0, .ref (w.2.2.1 28)), (2, .int l2)]) hx hb dX3_canMove_38 hl (k := 2) rfl rfl (by decide) rfl (fun ls hl => ?_)
          refine lv_goto (tgt := 2) hx hb dX3_canMove_41 (by decide) ?_
          exact ih x3 l2 (l3 + 1) _ _ _ hI (lv_sub hl [1, 2, 0] rfl) hf
        · refine lv_aload_n hx hb dX3_canMove_28 rfl (lv_at hl 0 rfl) ?_
          refine lv_iload_n hx hb dX3_canMove_29 rfl (lv_at hl 2 rfl) ?_
          refine m_calli (rest := []) C hI hf (mm_canPay l N _ _) rfl cqM_canPay ⟨rfl, rfl⟩ ⟨Nat.le_of_ble_eq_true rfl, Nat.le_of_ble_eq_true rfl⟩ rfl hl.1 rfl (Nat.le_of_ble_eq_true rfl) dX3_canMove_30 (fun v6 x5 H locs hI hf => ?_)
          refine b_ifne (tgt := 38) hx hb hf dX3_canMove_33 (by decide) (fun hf => ?_) (fun hf => ?_)
          · refine lv_iinc (v := l3 + 1) (lv' := [(3, .int (l3 + 1)), (0, .ref (w.2.2.1 28)), (2, .int l2)]) hx hb dX3_canMove_38 hl (k := 2) rfl rfl (by decide) rfl (fun ls hl => ?_)
            refine lv_goto (tgt := 2) hx hb dX3_canMove_41 (by decide) ?_
            exact ih x5 l2 (l3 + 1) _ _ _ hI (lv_sub hl [1, 2, 0] rfl) hf
          · refine lv_iconst (v := 0) hx hb dX3_canMove_36 (by decide) ?_
            exact m_zretc C hI zb_0 hf dX3_canMove_37
def fM_canMove (N : Nat) (x : MS) (l1 : Int32) (l2 : Int32) : Option (Int32 × MS) :=
  fM_canMove_b2 N N x l2 l1
theorem mm_canMove (l : Launch) (N : Nat) {w : mO} {A : Nat → Prop} : ∀ (x : MS) (l1 : Int32) (l2 : Int32) (r : Int32) (xr : MS), fM_canMove N x l1 l2 = some (r, xr) → mMet l yX3_canMove (ws_ yX3_canMove cX3_canMove 4 (some .boolean)) rmM_canMove [.ref (w.2.2.1 28), .int l1, .int l2] w A x (some (.int r)) xr := by
  intro x l1 l2 r xr hf
  refine m_start (cc := cX3_canMove) (by decide +kernel) rfl (Nat.le_of_ble_eq_true rfl) rfl ?_
  intro p e s m args below meth c ls H locs C hI hl
  have hx := C.1.1
  have hb := C.1.2.1
  have hown := C.1.2.2.2.1
  have hts := C.1.2.2.2.2.1
  have hE := C.2.2
  rw [fM_canMove] at hf
  refine lv_iload_n hx hb dX3_canMove_0 rfl (lv_at hl 1 rfl) ?_
  refine lv_istore_n (lv' := [(3, .int l1), (0, .ref (w.2.2.1 28)), (1, .int l1), (2, .int l2)]) hx hb dX3_canMove_1 rfl hl (by decide) rfl (fun ls hl => ?_)
  exact w_fM_canMove_b2 C N x l2 l1 _ _ _ hI (lv_sub hl [1, 3, 0] rfl) hf
/-! moves()I -/
abbrev rmM_moves : Room := { frames := 2, cells := 0, slots := 0, locals := 44 }
def fM_moves_b97 (N : Nat) (k9 : MS → Int32 → Int32 → Int32 → Option (Int32 × MS)) (k61 : MS → Int32 → Int32 → Int32 → Int32 → Int32 → Int32 → Option (Int32 × MS)) (x : MS) (l1 : Int32) (l2 : Int32) (l4 : Int32) (l5 : Int32) (l6 : Int32) (l7 : Int32) : Option (Int32 × MS) :=
  (wr x 0 1725 (76 + l7) (gA x 0 0)).bind fun x1 =>
  (fM_notes N x1 5 l7 0).bind fun x2 =>
  k61 x2 l1 (l2 + 1) l4 l5 l6 (l7 + 1)
theorem w_fM_moves_b97 {N : Nat} {r : Int32} {xr : MS} {k9 : MS → Int32 → Int32 → Int32 → Option (Int32 × MS)} {k61 : MS → Int32 → Int32 → Int32 → Int32 → Int32 → Int32 → Option (Int32 × MS)} (C : mC w A p s m args meth c cX3_moves 8 (some .int)) (hk9 : ∀ (x : MS) (l1 : Int32) (l2 : Int32) (l3 : Int32) (H : Heap) (locs : List Loc) (ls : Array Slot), mI w A x s.heap H locs → lv_has ls 8 [(0, .ref (w.2.2.1 28)), (1, .int l1), (2, .int l2), (3, .int l3)] → k9 x l1 l2 l3 = some (r, xr) → W p l e rmM_moves s m args below meth c H locs 0 0 (MQ below (mQ w A (some (.int r)) xr) args s 0 0 A) (F0 m 9 ls [])) (hk61 : ∀ (x : MS) (l1 : Int32) (l2 : Int32) (l4 : Int32) (l5 : Int32) (l6 : Int32) (l7 : Int32) (H : Heap) (locs : List Loc) (ls : Array Slot), mI w A x s.heap H locs → lv_has ls 8 [(0, .ref (w.2.2.1 28)), (1, .int l1), (2, .int l2), (4, .int l4), (5, .int l5), (6, .int l6), (7, .int l7)] → k61 x l1 l2 l4 l5 l6 l7 = some (r, xr) → W p l e rmM_moves s m args below meth c H locs 0 0 (MQ below (mQ w A (some (.int r)) xr) args s 0 0 A) (F0 m 61 ls [])) : ∀ (x : MS) (l1 : Int32) (l2 : Int32) (l4 : Int32) (l5 : Int32) (l6 : Int32) (l7 : Int32) (H : Heap) (locs : List Loc) (ls : Array Slot), mI w A x s.heap H locs → lv_has ls 8 [(0, .ref (w.2.2.1 28)), (1, .int l1), (2, .int l2), (4, .int l4), (5, .int l5), (6, .int l6), (7, .int l7)] → fM_moves_b97 N k9 k61 x l1 l2 l4 l5 l6 l7 = some (r, xr) → W p l e rmM_moves s m args below meth c H locs 0 0 (MQ below (mQ w A (some (.int r)) xr) args s 0 0 A) (F0 m 97 ls []) := by
  have hx := C.1.1
  have hb := C.1.2.1
  have hown := C.1.2.2.2.1
  have hts := C.1.2.2.2.2.1
  have hE := C.2.2
  intro x l1 l2 l4 l5 l6 l7 H locs ls hI hl hf
  rw [fM_moves_b97] at hf
  refine lv_aload_n hx hb dX3_moves_97 rfl (lv_at hl 0 rfl) ?_
  refine mg0 C hI dX3_moves_98 ?_
  refine lv_bipush (v := 76) hx hb dX3_moves_101 (by decide) ?_
  refine lv_iload hx hb dX3_moves_103 (lv_at hl 6 rfl) ?_
  refine lv_iadd hx hb dX3_moves_105 ?_
  refine lv_aload_n hx hb dX3_moves_106 rfl (lv_at hl 0 rfl) ?_
  refine mg0 C hI dX3_moves_107 ?_
  refine lv_iconst (v := 0) hx hb dX3_moves_110 (by decide) ?_
  refine mac0 C hI rc1725_0 dX3_moves_111 ?_
  refine ms0 C hI hf dX3_moves_112 (fun x1 H locs hI hf => ?_)
  refine lv_aload_n hx hb dX3_moves_113 rfl (lv_at hl 0 rfl) ?_
  refine lv_iconst (v := 5) hx hb dX3_moves_114 (by decide) ?_
  refine lv_iload hx hb dX3_moves_115 (lv_at hl 6 rfl) ?_
  refine lv_iconst (v := 0) hx hb dX3_moves_117 (by decide) ?_
  refine m_callv (rest := []) C hI hf (mm_notes l N _ _ _ _) rfl cqM_notes ⟨rfl, rfl⟩ ⟨Nat.le_of_ble_eq_true rfl, Nat.le_of_ble_eq_true rfl⟩ rfl hl.1 rfl (Nat.le_of_ble_eq_true rfl) dX3_moves_118 (fun x2 H locs hI hf => ?_)
  refine lv_iinc (v := l2 + 1) (lv' := [(2, .int (l2 + 1)), (0, .ref (w.2.2.1 28)), (1, .int l1), (4, .int l4), (5, .int l5), (6, .int l6), (7, .int l7)]) hx hb dX3_moves_121 hl (k := 2) rfl rfl (by decide) rfl (fun ls hl => ?_)
  refine lv_iinc (v := l7 + 1) (lv' := [(7, .int (l7 + 1)), (2, .int (l2 + 1)), (0, .ref (w.2.2.1 28)), (1, .int l1), (4, .int l4), (5, .int l5), (6, .int l6)]) hx hb dX3_moves_124 hl (k := 6) rfl rfl (by decide) rfl (fun ls hl => ?_)
  refine lv_goto (tgt := 61) hx hb dX3_moves_127 (by decide) ?_
  exact hk61 x2 l1 (l2 + 1) l4 l5 l6 (l7 + 1) _ _ _ hI (lv_sub hl [2, 3, 1, 4, 5, 6, 0] rfl) hf
def fM_moves_b130 (N : Nat) (k9 : MS → Int32 → Int32 → Int32 → Option (Int32 × MS)) (x : MS) (l1 : Int32) (l2 : Int32) (l4 : Int32) (l5 : Int32) : Option (Int32 × MS) :=
  if l5 = 0 then
    k9 x l1 l2 l4
  else
    k9 x l1 l2 (gA x 0 88)
theorem w_fM_moves_b130 {N : Nat} {r : Int32} {xr : MS} {k9 : MS → Int32 → Int32 → Int32 → Option (Int32 × MS)} (C : mC w A p s m args meth c cX3_moves 8 (some .int)) (hk9 : ∀ (x : MS) (l1 : Int32) (l2 : Int32) (l3 : Int32) (H : Heap) (locs : List Loc) (ls : Array Slot), mI w A x s.heap H locs → lv_has ls 8 [(0, .ref (w.2.2.1 28)), (1, .int l1), (2, .int l2), (3, .int l3)] → k9 x l1 l2 l3 = some (r, xr) → W p l e rmM_moves s m args below meth c H locs 0 0 (MQ below (mQ w A (some (.int r)) xr) args s 0 0 A) (F0 m 9 ls [])) : ∀ (x : MS) (l1 : Int32) (l2 : Int32) (l4 : Int32) (l5 : Int32) (H : Heap) (locs : List Loc) (ls : Array Slot), mI w A x s.heap H locs → lv_has ls 8 [(0, .ref (w.2.2.1 28)), (1, .int l1), (2, .int l2), (4, .int l4), (5, .int l5)] → fM_moves_b130 N k9 x l1 l2 l4 l5 = some (r, xr) → W p l e rmM_moves s m args below meth c H locs 0 0 (MQ below (mQ w A (some (.int r)) xr) args s 0 0 A) (F0 m 130 ls []) := by
  have hx := C.1.1
  have hb := C.1.2.1
  have hown := C.1.2.2.2.1
  have hts := C.1.2.2.2.2.1
  have hE := C.2.2
  intro x l1 l2 l4 l5 H locs ls hI hl hf
  rw [fM_moves_b130] at hf
  refine lv_iload hx hb dX3_moves_130 (lv_at hl 4 rfl) ?_
  refine b_ifeq (tgt := 145) hx hb hf dX3_moves_132 (by decide) (fun hf => ?_) (fun hf => ?_)
  · refine lv_iload hx hb dX3_moves_145 (lv_at hl 3 rfl) ?_
    refine lv_istore_n (lv' := [(3, .int l4), (0, .ref (w.2.2.1 28)), (1, .int l1), (2, .int l2), (4, .int l4), (5, .int l5)]) hx hb dX3_moves_147 rfl hl (by decide) rfl (fun ls hl => ?_)
    refine lv_goto (tgt := 9) hx hb dX3_moves_148 (by decide) ?_
    exact hk9 x l1 l2 l4 _ _ _ hI (lv_sub hl [1, 2, 3, 0] rfl) hf
  · refine lv_aload_n hx hb dX3_moves_135 rfl (lv_at hl 0 rfl) ?_
    refine mg0 C hI dX3_moves_136 ?_
    refine lv_bipush (v := 88) hx hb dX3_moves_139 (by decide) ?_
    refine mac0 C hI rc1725_88 dX3_moves_141 ?_
    refine lv_goto (tgt := 147) hx hb dX3_moves_142 (by decide) ?_
    refine lv_istore_n (lv' := [(3, .int (gA x 0 88)), (0, .ref (w.2.2.1 28)), (1, .int l1), (2, .int l2), (4, .int l4), (5, .int l5)]) hx hb dX3_moves_147 rfl hl (by decide) rfl (fun ls hl => ?_)
    refine lv_goto (tgt := 9) hx hb dX3_moves_148 (by decide) ?_
    exact hk9 x l1 l2 (gA x 0 88) _ _ _ hI (lv_sub hl [1, 2, 3, 0] rfl) hf
def fM_moves_b61 (N : Nat) (k9 : MS → Int32 → Int32 → Int32 → Option (Int32 × MS)) : Nat → MS → Int32 → Int32 → Int32 → Int32 → Int32 → Int32 → Option (Int32 × MS)
  | 0, _, _, _, _, _, _, _ => none
  | n + 1, x, l1, l2, l4, l5, l6, l7 =>
  if l4 < l7 then
    fM_moves_b130 N k9 x l1 l2 l4 l5
  else
    if l6 = 0 then
      fM_moves_b130 N k9 x l1 l2 l4 l5
    else
      b2 (fM_hasMoved N x l7) fun v2 x1 =>
      if v2 = 0 then
        if l7 = l4 then
          if l5 = 0 then
            fM_moves_b61 N k9 n x1 l1 l2 l4 l5 l6 (l7 + 1)
          else
            fM_moves_b97 N k9 (fM_moves_b61 N k9 n) x1 l1 l2 l4 l5 l6 l7
        else
          fM_moves_b97 N k9 (fM_moves_b61 N k9 n) x1 l1 l2 l4 l5 l6 l7
      else
        fM_moves_b61 N k9 n x1 l1 l2 l4 l5 l6 (l7 + 1)
theorem w_fM_moves_b61 {N : Nat} {r : Int32} {xr : MS} {k9 : MS → Int32 → Int32 → Int32 → Option (Int32 × MS)} (C : mC w A p s m args meth c cX3_moves 8 (some .int)) (hk9 : ∀ (x : MS) (l1 : Int32) (l2 : Int32) (l3 : Int32) (H : Heap) (locs : List Loc) (ls : Array Slot), mI w A x s.heap H locs → lv_has ls 8 [(0, .ref (w.2.2.1 28)), (1, .int l1), (2, .int l2), (3, .int l3)] → k9 x l1 l2 l3 = some (r, xr) → W p l e rmM_moves s m args below meth c H locs 0 0 (MQ below (mQ w A (some (.int r)) xr) args s 0 0 A) (F0 m 9 ls [])) : ∀ (n : Nat) (x : MS) (l1 : Int32) (l2 : Int32) (l4 : Int32) (l5 : Int32) (l6 : Int32) (l7 : Int32) (H : Heap) (locs : List Loc) (ls : Array Slot), mI w A x s.heap H locs → lv_has ls 8 [(0, .ref (w.2.2.1 28)), (1, .int l1), (2, .int l2), (4, .int l4), (5, .int l5), (6, .int l6), (7, .int l7)] → fM_moves_b61 N k9 n x l1 l2 l4 l5 l6 l7 = some (r, xr) → W p l e rmM_moves s m args below meth c H locs 0 0 (MQ below (mQ w A (some (.int r)) xr) args s 0 0 A) (F0 m 61 ls []) := by
  have hx := C.1.1
  have hb := C.1.2.1
  have hown := C.1.2.2.2.1
  have hts := C.1.2.2.2.2.1
  have hE := C.2.2
  intro n
  induction n with
  | zero => intro x l1 l2 l4 l5 l6 l7 H locs ls hI hl hf; rw [fM_moves_b61] at hf; cases hf
  | succ n ih =>
  intro x l1 l2 l4 l5 l6 l7 H locs ls hI hl hf
  rw [fM_moves_b61] at hf
  refine lv_iload hx hb dX3_moves_61 (lv_at hl 6 rfl) ?_
  refine lv_iload hx hb dX3_moves_63 (lv_at hl 3 rfl) ?_
  refine b_icgt (tgt := 130) hx hb hf dX3_moves_65 (by decide) (fun hf => ?_) (fun hf => ?_)
  · exact w_fM_moves_b130 C hk9 x l1 l2 l4 l5 _ _ _ hI (lv_sub hl [0, 1, 2, 3, 4] rfl) hf
  · refine lv_iload hx hb dX3_moves_68 (lv_at hl 5 rfl) ?_
    refine b_ifeq (tgt := 130) hx hb hf dX3_moves_70 (by decide) (fun hf => ?_) (fun hf => ?_)
    · exact w_fM_moves_b130 C hk9 x l1 l2 l4 l5 _ _ _ hI (lv_sub hl [0, 1, 2, 3, 4] rfl) hf
    · refine lv_aload_n hx hb dX3_moves_73 rfl (lv_at hl 0 rfl) ?_
      refine lv_iload hx hb dX3_moves_74 (lv_at hl 6 rfl) ?_
      refine m_calli (rest := []) C hI hf (mm_hasMoved l N _ _) rfl cqM_hasMoved ⟨rfl, rfl⟩ ⟨Nat.le_of_ble_eq_true rfl, Nat.le_of_ble_eq_true rfl⟩ rfl hl.1 rfl (Nat.le_of_ble_eq_true rfl) dX3_moves_76 (fun v2 x1 H locs hI hf => ?_)
      refine b_ifne (tgt := 124) hx hb hf dX3_moves_79 (by decide) (fun hf => ?_) (fun hf => ?_)
      · refine lv_iinc (v := l7 + 1) (lv' := [(7, .int (l7 + 1)), (0, .ref (w.2.2.1 28)), (1, .int l1), (2, .int l2), (4, .int l4), (5, .int l5), (6, .int l6)]) hx hb dX3_moves_124 hl (k := 6) rfl rfl (by decide) rfl (fun ls hl => ?_)
        refine lv_goto (tgt := 61) hx hb dX3_moves_127 (by decide) ?_
        exact ih x1 l1 l2 l4 l5 l6 (l7 + 1) _ _ _ hI (lv_sub hl [1, 2, 3, 4, 5, 6, 0] rfl) hf
      · refine lv_iload hx hb dX3_moves_82 (lv_at hl 6 rfl) ?_
        refine lv_iload hx hb dX3_moves_84 (lv_at hl 3 rfl) ?_
        refine b_icne (tgt := 97) hx hb hf dX3_moves_86 (by decide) (fun hf => ?_) (fun hf => ?_)
        · exact w_fM_moves_b97 C hk9 ih x1 l1 l2 l4 l5 l6 l7 _ _ _ hI (lv_sub hl [0, 1, 2, 3, 4, 5, 6] rfl) hf
        · refine lv_iload hx hb dX3_moves_89 (lv_at hl 4 rfl) ?_
          refine b_ifne (tgt := 97) hx hb hf dX3_moves_91 (by decide) (fun hf => ?_) (fun hf => ?_)
          · exact w_fM_moves_b97 C hk9 ih x1 l1 l2 l4 l5 l6 l7 _ _ _ hI (lv_sub hl [0, 1, 2, 3, 4, 5, 6] rfl) hf
          · refine lv_goto (tgt := 124) hx hb dX3_moves_94 (by decide) ?_
            refine lv_iinc (v := l7 + 1) (lv' := [(7, .int (l7 + 1)), (0, .ref (w.2.2.1 28)), (1, .int l1), (2, .int l2), (4, .int l4), (5, .int l5), (6, .int l6)]) hx hb dX3_moves_124 hl (k := 6) rfl rfl (by decide) rfl (fun ls hl => ?_)
            refine lv_goto (tgt := 61) hx hb dX3_moves_127 (by decide) ?_
            exact ih x1 l1 l2 l4 l5 l6 (l7 + 1) _ _ _ hI (lv_sub hl [1, 2, 3, 4, 5, 6, 0] rfl) hf
def fM_moves_b9 (N : Nat) : Nat → MS → Int32 → Int32 → Int32 → Option (Int32 × MS)
  | 0, _, _, _, _ => none
  | n + 1, x, l1, l2, l3 =>
  if (gA x 0 88) ≤ l3 then
    some (l2, x)
  else
    b2 (fM_endOf N x l3 l1) fun v2 x1 =>
    lt (if v2 = ((gA x1 0 88) - 1) then 1 else 0 : Int32) fun v3 =>
    b2 (fM_canMove N x1 l3 v2) fun v5 x4 =>
    fM_moves_b61 N (fM_moves_b9 N n) N x4 l1 l2 v2 v3 v5 l3
theorem w_fM_moves_b9 {N : Nat} {r : Int32} {xr : MS} (C : mC w A p s m args meth c cX3_moves 8 (some .int)) : ∀ (n : Nat) (x : MS) (l1 : Int32) (l2 : Int32) (l3 : Int32) (H : Heap) (locs : List Loc) (ls : Array Slot), mI w A x s.heap H locs → lv_has ls 8 [(0, .ref (w.2.2.1 28)), (1, .int l1), (2, .int l2), (3, .int l3)] → fM_moves_b9 N n x l1 l2 l3 = some (r, xr) → W p l e rmM_moves s m args below meth c H locs 0 0 (MQ below (mQ w A (some (.int r)) xr) args s 0 0 A) (F0 m 9 ls []) := by
  have hx := C.1.1
  have hb := C.1.2.1
  have hown := C.1.2.2.2.1
  have hts := C.1.2.2.2.2.1
  have hE := C.2.2
  intro n
  induction n with
  | zero => intro x l1 l2 l3 H locs ls hI hl hf; rw [fM_moves_b9] at hf; cases hf
  | succ n ih =>
  intro x l1 l2 l3 H locs ls hI hl hf
  rw [fM_moves_b9] at hf
  refine lv_iload_n hx hb dX3_moves_9 rfl (lv_at hl 3 rfl) ?_
  refine lv_aload_n hx hb dX3_moves_10 rfl (lv_at hl 0 rfl) ?_
  refine mg0 C hI dX3_moves_11 ?_
  refine lv_bipush (v := 88) hx hb dX3_moves_14 (by decide) ?_
  refine mac0 C hI rc1725_88 dX3_moves_16 ?_
  refine b_icge (tgt := 151) hx hb hf dX3_moves_17 (by decide) (fun hf => ?_) (fun hf => ?_)
  · refine lv_iload_n hx hb dX3_moves_151 rfl (lv_at hl 2 rfl) ?_
    exact m_iret C hI hf dX3_moves_152
  · refine lv_aload_n hx hb dX3_moves_20 rfl (lv_at hl 0 rfl) ?_
    refine lv_iload_n hx hb dX3_moves_21 rfl (lv_at hl 3 rfl) ?_
    refine lv_iload_n hx hb dX3_moves_22 rfl (lv_at hl 1 rfl) ?_
    refine m_calli (rest := []) C hI hf (mm_endOf l N _ _ _) rfl cqM_endOf ⟨rfl, rfl⟩ ⟨Nat.le_of_ble_eq_true rfl, Nat.le_of_ble_eq_true rfl⟩ rfl hl.1 rfl (Nat.le_of_ble_eq_true rfl) dX3_moves_23 (fun v2 x1 H locs hI hf => ?_)
    refine lv_istore (lv' := [(4, .int v2), (0, .ref (w.2.2.1 28)), (1, .int l1), (2, .int l2), (3, .int l3)]) hx hb dX3_moves_26 hl (by decide) rfl (fun ls hl => ?_)
    refine lv_iload hx hb dX3_moves_28 (lv_at hl 0 rfl) ?_
    refine lv_aload_n hx hb dX3_moves_30 rfl (lv_at hl 1 rfl) ?_
    refine mg0 C hI dX3_moves_31 ?_
    refine lv_bipush (v := 88) hx hb dX3_moves_34 (by decide) ?_
    refine mac0 C hI rc1725_88 dX3_moves_36 ?_
    refine lv_iconst (v := 1) hx hb dX3_moves_37 (by decide) ?_
    refine lv_isub hx hb dX3_moves_38 ?_
    suffices hJ : ∀ v3 : Int32, (v3 = (if v2 = ((gA x1 0 88) - 1) then 1 else 0 : Int32)) → W p l e rmM_moves s m args below meth c H locs 0 0 (MQ below (mQ w A (some (.int r)) xr) args s 0 0 A) (F0 m 47 ls [.int v3]) by
      refine lv_icmp_ne (tgt := 46) hx hb dX3_moves_39 (by decide) (fun hc => ?_) (fun hc => ?_)
      · refine lv_iconst (v := 0) hx hb dX3_moves_46 (by decide) ?_
        exact hJ _ (if_neg hc).symm
      · refine lv_iconst (v := 1) hx hb dX3_moves_42 (by decide) ?_
        refine lv_goto (tgt := 47) hx hb dX3_moves_43 (by decide) ?_
        exact hJ _ (if_pos hc).symm
    intro v3 hv
    have hf := lt_of hv hf
    refine lv_istore (lv' := [(5, .int v3), (4, .int v2), (0, .ref (w.2.2.1 28)), (1, .int l1), (2, .int l2), (3, .int l3)]) hx hb dX3_moves_47 hl (by decide) rfl (fun ls hl => ?_)
    refine lv_aload_n hx hb dX3_moves_49 rfl (lv_at hl 2 rfl) ?_
    refine lv_iload_n hx hb dX3_moves_50 rfl (lv_at hl 5 rfl) ?_
    refine lv_iload hx hb dX3_moves_51 (lv_at hl 1 rfl) ?_
    refine m_calli (rest := []) C hI hf (mm_canMove l N _ _ _) rfl cqM_canMove ⟨rfl, rfl⟩ ⟨Nat.le_of_ble_eq_true rfl, Nat.le_of_ble_eq_true rfl⟩ rfl hl.1 rfl (Nat.le_of_ble_eq_true rfl) dX3_moves_53 (fun v5 x4 H locs hI hf => ?_)
    refine lv_istore (lv' := [(6, .int v5), (5, .int v3), (4, .int v2), (0, .ref (w.2.2.1 28)), (1, .int l1), (2, .int l2), (3, .int l3)]) hx hb dX3_moves_56 hl (by decide) rfl (fun ls hl => ?_)
    refine lv_iload_n hx hb dX3_moves_58 rfl (lv_at hl 6 rfl) ?_
    refine lv_istore (lv' := [(7, .int l3), (6, .int v5), (5, .int v3), (4, .int v2), (0, .ref (w.2.2.1 28)), (1, .int l1), (2, .int l2), (3, .int l3)]) hx hb dX3_moves_59 hl (by decide) rfl (fun ls hl => ?_)
    exact w_fM_moves_b61 C ih N x4 l1 l2 v2 v3 v5 l3 _ _ _ hI (lv_sub hl [4, 5, 6, 3, 2, 1, 0] rfl) hf
def fM_moves (N : Nat) (x : MS) : Option (Int32 × MS) :=
  b2 (fM_bridgedOnes N x) fun v2 x1 =>
  fM_moves_b9 N N x1 v2 0 0
theorem mm_moves (l : Launch) (N : Nat) {w : mO} {A : Nat → Prop} : ∀ (x : MS) (r : Int32) (xr : MS), fM_moves N x  = some (r, xr) → mMet l yX3_moves (ws_ yX3_moves cX3_moves 8 (some .int)) rmM_moves [.ref (w.2.2.1 28)] w A x (some (.int r)) xr := by
  intro x  r xr hf
  refine m_start (cc := cX3_moves) (by decide +kernel) rfl (Nat.le_of_ble_eq_true rfl) rfl ?_
  intro p e s m args below meth c ls H locs C hI hl
  have hx := C.1.1
  have hb := C.1.2.1
  have hown := C.1.2.2.2.1
  have hts := C.1.2.2.2.2.1
  have hE := C.2.2
  rw [fM_moves] at hf
  refine lv_aload_n hx hb dX3_moves_0 rfl (lv_at hl 0 rfl) ?_
  refine m_calli (rest := []) C hI hf (mm_bridgedOnes l N _) rfl cqM_bridgedOnes ⟨rfl, rfl⟩ ⟨Nat.le_of_ble_eq_true rfl, Nat.le_of_ble_eq_true rfl⟩ rfl hl.1 rfl (Nat.le_of_ble_eq_true rfl) dX3_moves_1 (fun v2 x1 H locs hI hf => ?_)
  refine lv_istore_n (lv' := [(1, .int v2), (0, .ref (w.2.2.1 28))]) hx hb dX3_moves_4 rfl hl (by decide) rfl (fun ls hl => ?_)
  refine lv_iconst (v := 0) hx hb dX3_moves_5 (by decide) ?_
  refine lv_istore_n (lv' := [(2, .int 0), (1, .int v2), (0, .ref (w.2.2.1 28))]) hx hb dX3_moves_6 rfl hl (by decide) rfl (fun ls hl => ?_)
  refine lv_iconst (v := 0) hx hb dX3_moves_7 (by decide) ?_
  refine lv_istore_n (lv' := [(3, .int 0), (2, .int 0), (1, .int v2), (0, .ref (w.2.2.1 28))]) hx hb dX3_moves_8 rfl hl (by decide) rfl (fun ls hl => ?_)
  exact w_fM_moves_b9 C N x1 v2 0 0 _ _ _ hI (lv_sub hl [3, 2, 1, 0] rfl) hf
/-! readyOf(I)I -/
abbrev rmM_readyOf : Room := { frames := 4, cells := 0, slots := 0, locals := 95 }
def fM_readyOf (N : Nat) (x : MS) (l1 : Int32) : Option (Int32 × MS) :=
  (rd 1725 (gA x 0) (93 + l1)).bind fun v1 =>
  b2 (fM_says N x 20 l1 (300 - (30 * v1)) 1000) fun v3 x2 =>
  some (v3, x2)
theorem mm_readyOf (l : Launch) (N : Nat) {w : mO} {A : Nat → Prop} : ∀ (x : MS) (l1 : Int32) (r : Int32) (xr : MS), fM_readyOf N x l1 = some (r, xr) → mMet l yX3_readyOf (ws_ yX3_readyOf cX3_readyOf 2 (some .int)) rmM_readyOf [.ref (w.2.2.1 28), .int l1] w A x (some (.int r)) xr := by
  intro x l1 r xr hf
  refine m_start (cc := cX3_readyOf) (by decide +kernel) rfl (Nat.le_of_ble_eq_true rfl) rfl ?_
  intro p e s m args below meth c ls H locs C hI hl
  have hx := C.1.1
  have hb := C.1.2.1
  have hown := C.1.2.2.2.1
  have hts := C.1.2.2.2.2.1
  have hE := C.2.2
  rw [fM_readyOf] at hf
  refine lv_aload_n hx hb dX3_readyOf_0 rfl (lv_at hl 0 rfl) ?_
  refine lv_bipush (v := 20) hx hb dX3_readyOf_1 (by decide) ?_
  refine lv_iload_n hx hb dX3_readyOf_3 rfl (lv_at hl 1 rfl) ?_
  refine lv_sipush (v := 300) hx hb dX3_readyOf_4 (by decide) ?_
  refine lv_bipush (v := 30) hx hb dX3_readyOf_7 (by decide) ?_
  refine lv_aload_n hx hb dX3_readyOf_9 rfl (lv_at hl 0 rfl) ?_
  refine mg0 C hI dX3_readyOf_10 ?_
  refine lv_bipush (v := 93) hx hb dX3_readyOf_13 (by decide) ?_
  refine lv_iload_n hx hb dX3_readyOf_15 rfl (lv_at hl 1 rfl) ?_
  refine lv_iadd hx hb dX3_readyOf_16 ?_
  refine ma0 C hI hf dX3_readyOf_17 (fun v1 hf => ?_)
  refine lv_imul hx hb dX3_readyOf_18 ?_
  refine lv_isub hx hb dX3_readyOf_19 ?_
  refine lv_sipush (v := 1000) hx hb dX3_readyOf_20 (by decide) ?_
  refine m_calli (rest := []) C hI hf (mm_says l N _ _ _ _ _) rfl cqM_says ⟨rfl, rfl⟩ ⟨Nat.le_of_ble_eq_true rfl, Nat.le_of_ble_eq_true rfl⟩ rfl hl.1 rfl (Nat.le_of_ble_eq_true rfl) dX3_readyOf_23 (fun v3 x2 H locs hI hf => ?_)
  exact m_iret C hI hf dX3_readyOf_26
/-! aDay()I -/
abbrev rmM_aDay : Room := { frames := 7, cells := 0, slots := 0, locals := 162 }
def fM_aDay_b125 (N : Nat) (k97 : MS → Int32 → Option (Int32 × MS)) (x : MS) (l1 : Int32) (s0 : Int32) : Option (Int32 × MS) :=
  if s0 ≤ 0 then
    k97 x (l1 + 1)
  else
    b2 (fM_falls N x s0) fun v2 x1 =>
    if v2 = 0 then
      k97 x1 (l1 + 1)
    else
      (fM_leaves N x1 l1).bind fun x3 =>
      k97 x3 (l1 + 1)
theorem w_fM_aDay_b125 {N : Nat} {r : Int32} {xr : MS} {k97 : MS → Int32 → Option (Int32 × MS)} (C : mC w A p s m args meth c cX3_aDay 3 (some .int)) (hk97 : ∀ (x : MS) (l1 : Int32) (H : Heap) (locs : List Loc) (ls : Array Slot), mI w A x s.heap H locs → lv_has ls 3 [(0, .ref (w.2.2.1 28)), (1, .int l1)] → k97 x l1 = some (r, xr) → W p l e rmM_aDay s m args below meth c H locs 0 0 (MQ below (mQ w A (some (.int r)) xr) args s 0 0 A) (F0 m 97 ls [])) : ∀ (x : MS) (l1 : Int32) (s0 : Int32) (H : Heap) (locs : List Loc) (ls : Array Slot), mI w A x s.heap H locs → lv_has ls 3 [(0, .ref (w.2.2.1 28)), (1, .int l1)] → fM_aDay_b125 N k97 x l1 s0 = some (r, xr) → W p l e rmM_aDay s m args below meth c H locs 0 0 (MQ below (mQ w A (some (.int r)) xr) args s 0 0 A) (F0 m 125 ls [.int s0]) := by
  have hx := C.1.1
  have hb := C.1.2.1
  have hown := C.1.2.2.2.1
  have hts := C.1.2.2.2.2.1
  have hE := C.2.2
  intro x l1 s0 H locs ls hI hl hf
  rw [fM_aDay_b125] at hf
  refine lv_istore_n (lv' := [(2, .int s0), (0, .ref (w.2.2.1 28)), (1, .int l1)]) hx hb dX3_aDay_125 rfl hl (by decide) rfl (fun ls hl => ?_)
  refine lv_iload_n hx hb dX3_aDay_126 rfl (lv_at hl 0 rfl) ?_
  refine b_ifle (tgt := 143) hx hb hf dX3_aDay_127 (by decide) (fun hf => ?_) (fun hf => ?_)
  · refine lv_iinc (v := l1 + 1) (lv' := [(1, .int (l1 + 1)), (2, .int s0), (0, .ref (w.2.2.1 28))]) hx hb dX3_aDay_143 hl (k := 2) rfl rfl (by decide) rfl (fun ls hl => ?_)
    refine lv_goto (tgt := 97) hx hb dX3_aDay_146 (by decide) ?_
    exact hk97 x (l1 + 1) _ _ _ hI (lv_sub hl [2, 0] rfl) hf
  · refine lv_aload_n hx hb dX3_aDay_130 rfl (lv_at hl 1 rfl) ?_
    refine lv_iload_n hx hb dX3_aDay_131 rfl (lv_at hl 0 rfl) ?_
    refine m_calli (rest := []) C hI hf (mm_falls l N _ _) rfl cqM_falls ⟨rfl, rfl⟩ ⟨Nat.le_of_ble_eq_true rfl, Nat.le_of_ble_eq_true rfl⟩ rfl hl.1 rfl (Nat.le_of_ble_eq_true rfl) dX3_aDay_132 (fun v2 x1 H locs hI hf => ?_)
    refine b_ifeq (tgt := 143) hx hb hf dX3_aDay_135 (by decide) (fun hf => ?_) (fun hf => ?_)
    · refine lv_iinc (v := l1 + 1) (lv' := [(1, .int (l1 + 1)), (2, .int s0), (0, .ref (w.2.2.1 28))]) hx hb dX3_aDay_143 hl (k := 2) rfl rfl (by decide) rfl (fun ls hl => ?_)
      refine lv_goto (tgt := 97) hx hb dX3_aDay_146 (by decide) ?_
      exact hk97 x1 (l1 + 1) _ _ _ hI (lv_sub hl [2, 0] rfl) hf
    · refine lv_aload_n hx hb dX3_aDay_138 rfl (lv_at hl 1 rfl) ?_
      refine lv_iload_n hx hb dX3_aDay_139 rfl (lv_at hl 2 rfl) ?_
      refine m_callv (rest := []) C hI hf (mm_leaves l N _ _) rfl cqM_leaves ⟨rfl, rfl⟩ ⟨Nat.le_of_ble_eq_true rfl, Nat.le_of_ble_eq_true rfl⟩ rfl hl.1 rfl (Nat.le_of_ble_eq_true rfl) dX3_aDay_140 (fun x3 H locs hI hf => ?_)
      refine lv_iinc (v := l1 + 1) (lv' := [(1, .int (l1 + 1)), (2, .int s0), (0, .ref (w.2.2.1 28))]) hx hb dX3_aDay_143 hl (k := 2) rfl rfl (by decide) rfl (fun ls hl => ?_)
      refine lv_goto (tgt := 97) hx hb dX3_aDay_146 (by decide) ?_
      exact hk97 x3 (l1 + 1) _ _ _ hI (lv_sub hl [2, 0] rfl) hf
def fM_aDay_b156 (N : Nat) : Nat → MS → Int32 → Int32 → Option (Int32 × MS)
  | 0, _, _, _ => none
  | n + 1, x, l1, l2 =>
  if (gA x 0 88) ≤ l2 then
    (wr x 0 1725 0 ((gA x 0 0) + 1)).bind fun x1 =>
    some (l1, x1)
  else
    b2 (fM_isBridged N x l2) fun v3 x2 =>
    if v3 = 0 then
      fM_aDay_b156 N n x2 l1 (l2 + 1)
    else
      b2 (fM_isThere N x2 l2) fun v5 x4 =>
      if v5 = 0 then
        fM_aDay_b156 N n x4 l1 (l2 + 1)
      else
        (rd 1725 (gA x4 0) (16 + l2)).bind fun v6 =>
        b2 (fM_costOf N x4 l2) fun v8 x7 =>
        (fM_greater N (-9999) (v6 - v8)).bind fun v9 =>
        (wr x7 0 1725 (16 + l2) v9).bind fun x10 =>
        fM_aDay_b156 N n x10 l1 (l2 + 1)
theorem w_fM_aDay_b156 {N : Nat} {r : Int32} {xr : MS} (C : mC w A p s m args meth c cX3_aDay 3 (some .int)) : ∀ (n : Nat) (x : MS) (l1 : Int32) (l2 : Int32) (H : Heap) (locs : List Loc) (ls : Array Slot), mI w A x s.heap H locs → lv_has ls 3 [(0, .ref (w.2.2.1 28)), (1, .int l1), (2, .int l2)] → fM_aDay_b156 N n x l1 l2 = some (r, xr) → W p l e rmM_aDay s m args below meth c H locs 0 0 (MQ below (mQ w A (some (.int r)) xr) args s 0 0 A) (F0 m 156 ls []) := by
  have hx := C.1.1
  have hb := C.1.2.1
  have hown := C.1.2.2.2.1
  have hts := C.1.2.2.2.2.1
  have hE := C.2.2
  intro n
  induction n with
  | zero => intro x l1 l2 H locs ls hI hl hf; rw [fM_aDay_b156] at hf; cases hf
  | succ n ih =>
  intro x l1 l2 H locs ls hI hl hf
  rw [fM_aDay_b156] at hf
  refine lv_iload_n hx hb dX3_aDay_156 rfl (lv_at hl 2 rfl) ?_
  refine lv_aload_n hx hb dX3_aDay_157 rfl (lv_at hl 0 rfl) ?_
  refine mg0 C hI dX3_aDay_158 ?_
  refine lv_bipush (v := 88) hx hb dX3_aDay_161 (by decide) ?_
  refine mac0 C hI rc1725_88 dX3_aDay_163 ?_
  refine b_icge (tgt := 219) hx hb hf dX3_aDay_164 (by decide) (fun hf => ?_) (fun hf => ?_)
  · refine lv_aload_n hx hb dX3_aDay_219 rfl (lv_at hl 0 rfl) ?_
    refine mg0 C hI dX3_aDay_220 ?_
    refine lv_iconst (v := 0) hx hb dX3_aDay_223 (by decide) ?_
    refine lv_dup2_11 hx hb dX3_aDay_224 rfl rfl ?_
    refine mac0 C hI rc1725_0 dX3_aDay_225 ?_
    refine lv_iconst (v := 1) hx hb dX3_aDay_226 (by decide) ?_
    refine lv_iadd hx hb dX3_aDay_227 ?_
    refine ms0 C hI hf dX3_aDay_228 (fun x1 H locs hI hf => ?_)
    refine lv_iload_n hx hb dX3_aDay_229 rfl (lv_at hl 1 rfl) ?_
    exact m_iret C hI hf dX3_aDay_230
  · refine lv_aload_n hx hb dX3_aDay_167 rfl (lv_at hl 0 rfl) ?_
    refine lv_iload_n hx hb dX3_aDay_168 rfl (lv_at hl 2 rfl) ?_
    refine m_calli (rest := []) C hI hf (mm_isBridged l N _ _) rfl cqM_isBridged ⟨rfl, rfl⟩ ⟨Nat.le_of_ble_eq_true rfl, Nat.le_of_ble_eq_true rfl⟩ rfl hl.1 rfl (Nat.le_of_ble_eq_true rfl) dX3_aDay_169 (fun v3 x2 H locs hI hf => ?_)
    refine b_ifeq (tgt := 213) hx hb hf dX3_aDay_172 (by decide) (fun hf => ?_) (fun hf => ?_)
    · refine lv_iinc (v := l2 + 1) (lv' := [(2, .int (l2 + 1)), (0, .ref (w.2.2.1 28)), (1, .int l1)]) hx hb dX3_aDay_213 hl (k := 2) rfl rfl (by decide) rfl (fun ls hl => ?_)
      refine lv_goto (tgt := 156) hx hb dX3_aDay_216 (by decide) ?_
      exact ih x2 l1 (l2 + 1) _ _ _ hI (lv_sub hl [1, 2, 0] rfl) hf
    · refine lv_aload_n hx hb dX3_aDay_175 rfl (lv_at hl 0 rfl) ?_
      refine lv_iload_n hx hb dX3_aDay_176 rfl (lv_at hl 2 rfl) ?_
      refine m_calli (rest := []) C hI hf (mm_isThere l N _ _) rfl cqM_isThere ⟨rfl, rfl⟩ ⟨Nat.le_of_ble_eq_true rfl, Nat.le_of_ble_eq_true rfl⟩ rfl hl.1 rfl (Nat.le_of_ble_eq_true rfl) dX3_aDay_177 (fun v5 x4 H locs hI hf => ?_)
      refine b_ifeq (tgt := 213) hx hb hf dX3_aDay_180 (by decide) (fun hf => ?_) (fun hf => ?_)
      · refine lv_iinc (v := l2 + 1) (lv' := [(2, .int (l2 + 1)), (0, .ref (w.2.2.1 28)), (1, .int l1)]) hx hb dX3_aDay_213 hl (k := 2) rfl rfl (by decide) rfl (fun ls hl => ?_)
        refine lv_goto (tgt := 156) hx hb dX3_aDay_216 (by decide) ?_
        exact ih x4 l1 (l2 + 1) _ _ _ hI (lv_sub hl [1, 2, 0] rfl) hf
      · refine lv_aload_n hx hb dX3_aDay_183 rfl (lv_at hl 0 rfl) ?_
        refine mg0 C hI dX3_aDay_184 ?_
        refine lv_bipush (v := 16) hx hb dX3_aDay_187 (by decide) ?_
        refine lv_iload_n hx hb dX3_aDay_189 rfl (lv_at hl 2 rfl) ?_
        refine lv_iadd hx hb dX3_aDay_190 ?_
        refine lv_sipush (v := (-9999)) hx hb dX3_aDay_191 (by decide) ?_
        refine lv_aload_n hx hb dX3_aDay_194 rfl (lv_at hl 0 rfl) ?_
        refine mg0 C hI dX3_aDay_195 ?_
        refine lv_bipush (v := 16) hx hb dX3_aDay_198 (by decide) ?_
        refine lv_iload_n hx hb dX3_aDay_200 rfl (lv_at hl 2 rfl) ?_
        refine lv_iadd hx hb dX3_aDay_201 ?_
        refine ma0 C hI hf dX3_aDay_202 (fun v6 hf => ?_)
        refine lv_aload_n hx hb dX3_aDay_203 rfl (lv_at hl 0 rfl) ?_
        refine lv_iload_n hx hb dX3_aDay_204 rfl (lv_at hl 2 rfl) ?_
        refine m_calli (rest := [.int v6, .int (-9999), .int (16 + l2), .ref (w.2.2.1 0)]) C hI hf (mm_costOf l N _ _) rfl cqM_costOf ⟨rfl, rfl⟩ ⟨Nat.le_of_ble_eq_true rfl, Nat.le_of_ble_eq_true rfl⟩ rfl hl.1 rfl (Nat.le_of_ble_eq_true rfl) dX3_aDay_205 (fun v8 x7 H locs hI hf => ?_)
        refine lv_isub hx hb dX3_aDay_208 ?_
        refine g_calliS (rest := [.int (16 + l2), .ref (w.2.2.1 0)]) C.1 hf (smM_greater l N _ _) cqM_M_greater ⟨rfl, rfl⟩ ⟨Nat.le_of_ble_eq_true rfl, Nat.le_of_ble_eq_true rfl⟩ rfl hl.1 rfl (Nat.le_of_ble_eq_true rfl) ⟨Nat.zero_le _, Nat.zero_le _⟩ dX3_aDay_209 (fun v9 hf => ?_)
        refine ms0 C hI hf dX3_aDay_212 (fun x10 H locs hI hf => ?_)
        refine lv_iinc (v := l2 + 1) (lv' := [(2, .int (l2 + 1)), (0, .ref (w.2.2.1 28)), (1, .int l1)]) hx hb dX3_aDay_213 hl (k := 2) rfl rfl (by decide) rfl (fun ls hl => ?_)
        refine lv_goto (tgt := 156) hx hb dX3_aDay_216 (by decide) ?_
        exact ih x10 l1 (l2 + 1) _ _ _ hI (lv_sub hl [1, 2, 0] rfl) hf
def fM_aDay_b97 (N : Nat) : Nat → MS → Int32 → Option (Int32 × MS)
  | 0, _, _ => none
  | n + 1, x, l1 =>
  if (gA x 0 88) ≤ l1 then
    b2 (fM_moves N x) fun v2 x1 =>
    fM_aDay_b156 N N x1 v2 0
  else
    b2 (fM_isThere N x l1) fun v4 x3 =>
    if v4 = 0 then
      fM_aDay_b125 N (fM_aDay_b97 N n) x3 l1 0
    else
      b2 (fM_leaveOf N x3 l1) fun v6 x5 =>
      fM_aDay_b125 N (fM_aDay_b97 N n) x5 l1 v6
theorem w_fM_aDay_b97 {N : Nat} {r : Int32} {xr : MS} (C : mC w A p s m args meth c cX3_aDay 3 (some .int)) : ∀ (n : Nat) (x : MS) (l1 : Int32) (H : Heap) (locs : List Loc) (ls : Array Slot), mI w A x s.heap H locs → lv_has ls 3 [(0, .ref (w.2.2.1 28)), (1, .int l1)] → fM_aDay_b97 N n x l1 = some (r, xr) → W p l e rmM_aDay s m args below meth c H locs 0 0 (MQ below (mQ w A (some (.int r)) xr) args s 0 0 A) (F0 m 97 ls []) := by
  have hx := C.1.1
  have hb := C.1.2.1
  have hown := C.1.2.2.2.1
  have hts := C.1.2.2.2.2.1
  have hE := C.2.2
  intro n
  induction n with
  | zero => intro x l1 H locs ls hI hl hf; rw [fM_aDay_b97] at hf; cases hf
  | succ n ih =>
  intro x l1 H locs ls hI hl hf
  rw [fM_aDay_b97] at hf
  refine lv_iload_n hx hb dX3_aDay_97 rfl (lv_at hl 1 rfl) ?_
  refine lv_aload_n hx hb dX3_aDay_98 rfl (lv_at hl 0 rfl) ?_
  refine mg0 C hI dX3_aDay_99 ?_
  refine lv_bipush (v := 88) hx hb dX3_aDay_102 (by decide) ?_
  refine mac0 C hI rc1725_88 dX3_aDay_104 ?_
  refine b_icge (tgt := 149) hx hb hf dX3_aDay_105 (by decide) (fun hf => ?_) (fun hf => ?_)
  · refine lv_aload_n hx hb dX3_aDay_149 rfl (lv_at hl 0 rfl) ?_
    refine m_calli (rest := []) C hI hf (mm_moves l N _) rfl cqM_moves ⟨rfl, rfl⟩ ⟨Nat.le_of_ble_eq_true rfl, Nat.le_of_ble_eq_true rfl⟩ rfl hl.1 rfl (Nat.le_of_ble_eq_true rfl) dX3_aDay_150 (fun v2 x1 H locs hI hf => ?_)
    refine lv_istore_n (lv' := [(1, .int v2), (0, .ref (w.2.2.1 28))]) hx hb dX3_aDay_153 rfl hl (by decide) rfl (fun ls hl => ?_)
    refine lv_iconst (v := 0) hx hb dX3_aDay_154 (by decide) ?_
    refine lv_istore_n (lv' := [(2, .int 0), (1, .int v2), (0, .ref (w.2.2.1 28))]) hx hb dX3_aDay_155 rfl hl (by decide) rfl (fun ls hl => ?_)
    exact w_fM_aDay_b156 C N x1 v2 0 _ _ _ hI (lv_sub hl [2, 1, 0] rfl) hf
  · refine lv_aload_n hx hb dX3_aDay_108 rfl (lv_at hl 0 rfl) ?_
    refine lv_iload_n hx hb dX3_aDay_109 rfl (lv_at hl 1 rfl) ?_
    refine m_calli (rest := []) C hI hf (mm_isThere l N _ _) rfl cqM_isThere ⟨rfl, rfl⟩ ⟨Nat.le_of_ble_eq_true rfl, Nat.le_of_ble_eq_true rfl⟩ rfl hl.1 rfl (Nat.le_of_ble_eq_true rfl) dX3_aDay_110 (fun v4 x3 H locs hI hf => ?_)
    refine b_ifeq (tgt := 124) hx hb hf dX3_aDay_113 (by decide) (fun hf => ?_) (fun hf => ?_)
    · refine lv_iconst (v := 0) hx hb dX3_aDay_124 (by decide) ?_
      exact w_fM_aDay_b125 C ih x3 l1 0 _ _ _ hI (lv_sub hl [0, 1] rfl) hf
    · refine lv_aload_n hx hb dX3_aDay_116 rfl (lv_at hl 0 rfl) ?_
      refine lv_iload_n hx hb dX3_aDay_117 rfl (lv_at hl 1 rfl) ?_
      refine m_calli (rest := []) C hI hf (mm_leaveOf l N _ _) rfl cqM_leaveOf ⟨rfl, rfl⟩ ⟨Nat.le_of_ble_eq_true rfl, Nat.le_of_ble_eq_true rfl⟩ rfl hl.1 rfl (Nat.le_of_ble_eq_true rfl) dX3_aDay_118 (fun v6 x5 H locs hI hf => ?_)
      refine lv_goto (tgt := 125) hx hb dX3_aDay_121 (by decide) ?_
      exact w_fM_aDay_b125 C ih x5 l1 v6 _ _ _ hI (lv_sub hl [0, 1] rfl) hf
def fM_aDay_b53 (N : Nat) : Nat → MS → Int32 → Option (Int32 × MS)
  | 0, _, _ => none
  | n + 1, x, l1 =>
  if (gA x 0 88) ≤ l1 then
    fM_aDay_b97 N N x 0
  else
    b2 (fM_canPaper N x l1) fun v2 x1 =>
    if v2 = 0 then
      fM_aDay_b53 N n x1 (l1 + 1)
    else
      b2 (fM_readyOf N x1 l1) fun v4 x3 =>
      b2 (fM_falls N x3 v4) fun v6 x5 =>
      if v6 = 0 then
        fM_aDay_b53 N n x5 (l1 + 1)
      else
        (fM_getsReady N x5 l1).bind fun x7 =>
        fM_aDay_b53 N n x7 (l1 + 1)
theorem w_fM_aDay_b53 {N : Nat} {r : Int32} {xr : MS} (C : mC w A p s m args meth c cX3_aDay 3 (some .int)) : ∀ (n : Nat) (x : MS) (l1 : Int32) (H : Heap) (locs : List Loc) (ls : Array Slot), mI w A x s.heap H locs → lv_has ls 3 [(0, .ref (w.2.2.1 28)), (1, .int l1)] → fM_aDay_b53 N n x l1 = some (r, xr) → W p l e rmM_aDay s m args below meth c H locs 0 0 (MQ below (mQ w A (some (.int r)) xr) args s 0 0 A) (F0 m 53 ls []) := by
  have hx := C.1.1
  have hb := C.1.2.1
  have hown := C.1.2.2.2.1
  have hts := C.1.2.2.2.2.1
  have hE := C.2.2
  intro n
  induction n with
  | zero => intro x l1 H locs ls hI hl hf; rw [fM_aDay_b53] at hf; cases hf
  | succ n ih =>
  intro x l1 H locs ls hI hl hf
  rw [fM_aDay_b53] at hf
  refine lv_iload_n hx hb dX3_aDay_53 rfl (lv_at hl 1 rfl) ?_
  refine lv_aload_n hx hb dX3_aDay_54 rfl (lv_at hl 0 rfl) ?_
  refine mg0 C hI dX3_aDay_55 ?_
  refine lv_bipush (v := 88) hx hb dX3_aDay_58 (by decide) ?_
  refine mac0 C hI rc1725_88 dX3_aDay_60 ?_
  refine b_icge (tgt := 95) hx hb hf dX3_aDay_61 (by decide) (fun hf => ?_) (fun hf => ?_)
  · refine lv_iconst (v := 0) hx hb dX3_aDay_95 (by decide) ?_
    refine lv_istore_n (lv' := [(1, .int 0), (0, .ref (w.2.2.1 28))]) hx hb dX3_aDay_96 rfl hl (by decide) rfl (fun ls hl => ?_)
    exact w_fM_aDay_b97 C N x 0 _ _ _ hI (lv_sub hl [1, 0] rfl) hf
  · refine lv_aload_n hx hb dX3_aDay_64 rfl (lv_at hl 0 rfl) ?_
    refine lv_iload_n hx hb dX3_aDay_65 rfl (lv_at hl 1 rfl) ?_
    refine m_calli (rest := []) C hI hf (mm_canPaper l N _ _) rfl cqM_canPaper ⟨rfl, rfl⟩ ⟨Nat.le_of_ble_eq_true rfl, Nat.le_of_ble_eq_true rfl⟩ rfl hl.1 rfl (Nat.le_of_ble_eq_true rfl) dX3_aDay_66 (fun v2 x1 H locs hI hf => ?_)
    refine b_ifeq (tgt := 89) hx hb hf dX3_aDay_69 (by decide) (fun hf => ?_) (fun hf => ?_)
    · refine lv_iinc (v := l1 + 1) (lv' := [(1, .int (l1 + 1)), (0, .ref (w.2.2.1 28))]) hx hb dX3_aDay_89 hl (k := 1) rfl rfl (by decide) rfl (fun ls hl => ?_)
      refine lv_goto (tgt := 53) hx hb dX3_aDay_92 (by decide) ?_
      exact ih x1 (l1 + 1) _ _ _ hI (lv_sub hl [1, 0] rfl) hf
    · refine lv_aload_n hx hb dX3_aDay_72 rfl (lv_at hl 0 rfl) ?_
      refine lv_aload_n hx hb dX3_aDay_73 rfl (lv_at hl 0 rfl) ?_
      refine lv_iload_n hx hb dX3_aDay_74 rfl (lv_at hl 1 rfl) ?_
      refine m_calli (rest := [.ref (w.2.2.1 28)]) C hI hf (mm_readyOf l N _ _) rfl cqM_readyOf ⟨rfl, rfl⟩ ⟨Nat.le_of_ble_eq_true rfl, Nat.le_of_ble_eq_true rfl⟩ rfl hl.1 rfl (Nat.le_of_ble_eq_true rfl) dX3_aDay_75 (fun v4 x3 H locs hI hf => ?_)
      refine m_calli (rest := []) C hI hf (mm_falls l N _ _) rfl cqM_falls ⟨rfl, rfl⟩ ⟨Nat.le_of_ble_eq_true rfl, Nat.le_of_ble_eq_true rfl⟩ rfl hl.1 rfl (Nat.le_of_ble_eq_true rfl) dX3_aDay_78 (fun v6 x5 H locs hI hf => ?_)
      refine b_ifeq (tgt := 89) hx hb hf dX3_aDay_81 (by decide) (fun hf => ?_) (fun hf => ?_)
      · refine lv_iinc (v := l1 + 1) (lv' := [(1, .int (l1 + 1)), (0, .ref (w.2.2.1 28))]) hx hb dX3_aDay_89 hl (k := 1) rfl rfl (by decide) rfl (fun ls hl => ?_)
        refine lv_goto (tgt := 53) hx hb dX3_aDay_92 (by decide) ?_
        exact ih x5 (l1 + 1) _ _ _ hI (lv_sub hl [1, 0] rfl) hf
      · refine lv_aload_n hx hb dX3_aDay_84 rfl (lv_at hl 0 rfl) ?_
        refine lv_iload_n hx hb dX3_aDay_85 rfl (lv_at hl 1 rfl) ?_
        refine m_callv (rest := []) C hI hf (mm_getsReady l N _ _) rfl cqM_getsReady ⟨rfl, rfl⟩ ⟨Nat.le_of_ble_eq_true rfl, Nat.le_of_ble_eq_true rfl⟩ rfl hl.1 rfl (Nat.le_of_ble_eq_true rfl) dX3_aDay_86 (fun x7 H locs hI hf => ?_)
        refine lv_iinc (v := l1 + 1) (lv' := [(1, .int (l1 + 1)), (0, .ref (w.2.2.1 28))]) hx hb dX3_aDay_89 hl (k := 1) rfl rfl (by decide) rfl (fun ls hl => ?_)
        refine lv_goto (tgt := 53) hx hb dX3_aDay_92 (by decide) ?_
        exact ih x7 (l1 + 1) _ _ _ hI (lv_sub hl [1, 0] rfl) hf
def fM_aDay_b2 (N : Nat) : Nat → MS → Int32 → Option (Int32 × MS)
  | 0, _, _ => none
  | n + 1, x, l1 =>
  if (gA x 0 90) ≤ l1 then
    fM_aDay_b53 N N x 0
  else
    (rd 1725 (gA x 0) (129 + (5 * l1))).bind fun v1 =>
    if v1 = (gA x 0 0) then
      (fM_does N x (129 + (5 * l1))).bind fun x2 =>
      fM_aDay_b2 N n x2 (l1 + 1)
    else
      fM_aDay_b2 N n x (l1 + 1)
theorem w_fM_aDay_b2 {N : Nat} {r : Int32} {xr : MS} (C : mC w A p s m args meth c cX3_aDay 3 (some .int)) : ∀ (n : Nat) (x : MS) (l1 : Int32) (H : Heap) (locs : List Loc) (ls : Array Slot), mI w A x s.heap H locs → lv_has ls 3 [(0, .ref (w.2.2.1 28)), (1, .int l1)] → fM_aDay_b2 N n x l1 = some (r, xr) → W p l e rmM_aDay s m args below meth c H locs 0 0 (MQ below (mQ w A (some (.int r)) xr) args s 0 0 A) (F0 m 2 ls []) := by
  have hx := C.1.1
  have hb := C.1.2.1
  have hown := C.1.2.2.2.1
  have hts := C.1.2.2.2.2.1
  have hE := C.2.2
  intro n
  induction n with
  | zero => intro x l1 H locs ls hI hl hf; rw [fM_aDay_b2] at hf; cases hf
  | succ n ih =>
  intro x l1 H locs ls hI hl hf
  rw [fM_aDay_b2] at hf
  refine lv_iload_n hx hb dX3_aDay_2 rfl (lv_at hl 1 rfl) ?_
  refine lv_aload_n hx hb dX3_aDay_3 rfl (lv_at hl 0 rfl) ?_
  refine mg0 C hI dX3_aDay_4 ?_
  refine lv_bipush (v := 90) hx hb dX3_aDay_7 (by decide) ?_
  refine mac0 C hI rc1725_90 dX3_aDay_9 ?_
  refine b_icge (tgt := 51) hx hb hf dX3_aDay_10 (by decide) (fun hf => ?_) (fun hf => ?_)
  · refine lv_iconst (v := 0) hx hb dX3_aDay_51 (by decide) ?_
    refine lv_istore_n (lv' := [(1, .int 0), (0, .ref (w.2.2.1 28))]) hx hb dX3_aDay_52 rfl hl (by decide) rfl (fun ls hl => ?_)
    exact w_fM_aDay_b53 C N x 0 _ _ _ hI (lv_sub hl [1, 0] rfl) hf
  · refine lv_aload_n hx hb dX3_aDay_13 rfl (lv_at hl 0 rfl) ?_
    refine mg0 C hI dX3_aDay_14 ?_
    refine lv_sipush (v := 129) hx hb dX3_aDay_17 (by decide) ?_
    refine lv_iconst (v := 5) hx hb dX3_aDay_20 (by decide) ?_
    refine lv_iload_n hx hb dX3_aDay_21 rfl (lv_at hl 1 rfl) ?_
    refine lv_imul hx hb dX3_aDay_22 ?_
    refine lv_iadd hx hb dX3_aDay_23 ?_
    refine ma0 C hI hf dX3_aDay_24 (fun v1 hf => ?_)
    refine lv_aload_n hx hb dX3_aDay_25 rfl (lv_at hl 0 rfl) ?_
    refine mg0 C hI dX3_aDay_26 ?_
    refine lv_iconst (v := 0) hx hb dX3_aDay_29 (by decide) ?_
    refine mac0 C hI rc1725_0 dX3_aDay_30 ?_
    refine b_icne (tgt := 45) hx hb hf dX3_aDay_31 (by decide) (fun hf => ?_) (fun hf => ?_)
    · refine lv_iinc (v := l1 + 1) (lv' := [(1, .int (l1 + 1)), (0, .ref (w.2.2.1 28))]) hx hb dX3_aDay_45 hl (k := 1) rfl rfl (by decide) rfl (fun ls hl => ?_)
      refine lv_goto (tgt := 2) hx hb dX3_aDay_48 (by decide) ?_
      exact ih x (l1 + 1) _ _ _ hI (lv_sub hl [1, 0] rfl) hf
    · refine lv_aload_n hx hb dX3_aDay_34 rfl (lv_at hl 0 rfl) ?_
      refine lv_sipush (v := 129) hx hb dX3_aDay_35 (by decide) ?_
      refine lv_iconst (v := 5) hx hb dX3_aDay_38 (by decide) ?_
      refine lv_iload_n hx hb dX3_aDay_39 rfl (lv_at hl 1 rfl) ?_
      refine lv_imul hx hb dX3_aDay_40 ?_
      refine lv_iadd hx hb dX3_aDay_41 ?_
      refine m_callv (rest := []) C hI hf (mm_does l N _ _) rfl cqM_does ⟨rfl, rfl⟩ ⟨Nat.le_of_ble_eq_true rfl, Nat.le_of_ble_eq_true rfl⟩ rfl hl.1 rfl (Nat.le_of_ble_eq_true rfl) dX3_aDay_42 (fun x2 H locs hI hf => ?_)
      refine lv_iinc (v := l1 + 1) (lv' := [(1, .int (l1 + 1)), (0, .ref (w.2.2.1 28))]) hx hb dX3_aDay_45 hl (k := 1) rfl rfl (by decide) rfl (fun ls hl => ?_)
      refine lv_goto (tgt := 2) hx hb dX3_aDay_48 (by decide) ?_
      exact ih x2 (l1 + 1) _ _ _ hI (lv_sub hl [1, 0] rfl) hf
def fM_aDay (N : Nat) (x : MS) : Option (Int32 × MS) :=
  fM_aDay_b2 N N x 0
theorem mm_aDay (l : Launch) (N : Nat) {w : mO} {A : Nat → Prop} : ∀ (x : MS) (r : Int32) (xr : MS), fM_aDay N x  = some (r, xr) → mMet l yX3_aDay (ws_ yX3_aDay cX3_aDay 3 (some .int)) rmM_aDay [.ref (w.2.2.1 28)] w A x (some (.int r)) xr := by
  intro x  r xr hf
  refine m_start (cc := cX3_aDay) (by decide +kernel) rfl (Nat.le_of_ble_eq_true rfl) rfl ?_
  intro p e s m args below meth c ls H locs C hI hl
  have hx := C.1.1
  have hb := C.1.2.1
  have hown := C.1.2.2.2.1
  have hts := C.1.2.2.2.2.1
  have hE := C.2.2
  rw [fM_aDay] at hf
  refine lv_iconst (v := 0) hx hb dX3_aDay_0 (by decide) ?_
  refine lv_istore_n (lv' := [(1, .int 0), (0, .ref (w.2.2.1 28))]) hx hb dX3_aDay_1 rfl hl (by decide) rfl (fun ls hl => ?_)
  exact w_fM_aDay_b2 C N x 0 _ _ _ hI (lv_sub hl [1, 0] rfl) hf
