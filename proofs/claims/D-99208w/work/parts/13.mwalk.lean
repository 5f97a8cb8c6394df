set_option maxRecDepth 100000
variable {p : Program} {l : Launch} {e : Env} {R : Room} {s : State} {m : MethodId} {args : Array Value} {below : List Frame} {meth : Method} {c : Code} {H : Heap} {locs : List Loc} {Q : State → Prop}
variable {w : mO} {A : Nat → Prop}
/-! aRecord()Z -/
abbrev rmM_aRecord : Room := { frames := 11, cells := 0, slots := 0, locals := 237 }
def fM_aRecord (N : Nat) (x : MS) : Option (Int32 × MS) :=
  b2 (fM_told N x (2 * (gS x 15)) 15 0 999) fun v2 x1 =>
  if v2 = 0 then
    some (0, x1)
  else
    b2 (fM_need N x1 12) fun v4 x3 =>
    if v4 = 0 then
      some (0, x3)
    else
      b2 (fM_aLink N x3 ((2 * (gS x3 15)) + 1)) fun v6 x5 =>
      if v6 = 0 then
        some (0, x5)
      else
        some (1, x5)
theorem mm_aRecord (l : Launch) (N : Nat) {w : mO} {A : Nat → Prop} : ∀ (x : MS) (r : Int32) (xr : MS), fM_aRecord N x  = some (r, xr) → mMet l yX3_aRecord (ws_ yX3_aRecord cX3_aRecord 1 (some .boolean)) rmM_aRecord [.ref (w.2.2.1 28)] w A x (some (.int r)) xr := by
  intro x  r xr hf
  refine m_start (cc := cX3_aRecord) (by decide +kernel) rfl (Nat.le_of_ble_eq_true rfl) rfl ?_
  intro p e s m args below meth c ls H locs C hI hl
  have hx := C.1.1
  have hb := C.1.2.1
  have hown := C.1.2.2.2.1
  have hts := C.1.2.2.2.2.1
  have hE := C.2.2
  rw [fM_aRecord] at hf
  refine lv_aload_n hx hb dX3_aRecord_0 rfl (lv_at hl 0 rfl) ?_
  refine lv_iconst (v := 2) hx hb dX3_aRecord_1 (by decide) ?_
  refine lv_aload_n hx hb dX3_aRecord_2 rfl (lv_at hl 0 rfl) ?_
  refine mg15 C hI dX3_aRecord_3 ?_
  refine lv_imul hx hb dX3_aRecord_6 ?_
  refine lv_bipush (v := 15) hx hb dX3_aRecord_7 (by decide) ?_
  refine lv_iconst (v := 0) hx hb dX3_aRecord_9 (by decide) ?_
  refine lv_sipush (v := 999) hx hb dX3_aRecord_10 (by decide) ?_
  refine m_calli (rest := []) C hI hf (mm_told l N _ _ _ _ _) rfl cqM_told ⟨rfl, rfl⟩ ⟨Nat.le_of_ble_eq_true rfl, Nat.le_of_ble_eq_true rfl⟩ rfl hl.1 rfl (Nat.le_of_ble_eq_true rfl) dX3_aRecord_13 (fun v2 x1 H locs hI hf => ?_)
  refine b_ifeq (tgt := 47) hx hb hf dX3_aRecord_16 (by decide) (fun hf => ?_) (fun hf => ?_)
  · refine lv_iconst (v := 0) hx hb dX3_aRecord_47 (by decide) ?_
    exact m_zretc C hI zb_0 hf dX3_aRecord_48
  · refine lv_aload_n hx hb dX3_aRecord_19 rfl (lv_at hl 0 rfl) ?_
    refine lv_bipush (v := 12) hx hb dX3_aRecord_20 (by decide) ?_
    refine m_calli (rest := []) C hI hf (mm_need l N _ _) rfl cqM_need ⟨rfl, rfl⟩ ⟨Nat.le_of_ble_eq_true rfl, Nat.le_of_ble_eq_true rfl⟩ rfl hl.1 rfl (Nat.le_of_ble_eq_true rfl) dX3_aRecord_22 (fun v4 x3 H locs hI hf => ?_)
    refine b_ifeq (tgt := 47) hx hb hf dX3_aRecord_25 (by decide) (fun hf => ?_) (fun hf => ?_)
    · refine lv_iconst (v := 0) hx hb dX3_aRecord_47 (by decide) ?_
      exact m_zretc C hI zb_0 hf dX3_aRecord_48
    · refine lv_aload_n hx hb dX3_aRecord_28 rfl (lv_at hl 0 rfl) ?_
      refine lv_iconst (v := 2) hx hb dX3_aRecord_29 (by decide) ?_
      refine lv_aload_n hx hb dX3_aRecord_30 rfl (lv_at hl 0 rfl) ?_
      refine mg15 C hI dX3_aRecord_31 ?_
      refine lv_imul hx hb dX3_aRecord_34 ?_
      refine lv_iconst (v := 1) hx hb dX3_aRecord_35 (by decide) ?_
      refine lv_iadd hx hb dX3_aRecord_36 ?_
      refine m_calli (rest := []) C hI hf (mm_aLink l N _ _) rfl cqM_aLink ⟨rfl, rfl⟩ ⟨Nat.le_of_ble_eq_true rfl, Nat.le_of_ble_eq_true rfl⟩ rfl hl.1 rfl (Nat.le_of_ble_eq_true rfl) dX3_aRecord_37 (fun v6 x5 H locs hI hf => ?_)
      refine b_ifeq (tgt := 47) hx hb hf dX3_aRecord_40 (by decide) (fun hf => ?_) (fun hf => ?_)
      · refine lv_iconst (v := 0) hx hb dX3_aRecord_47 (by decide) ?_
        exact m_zretc C hI zb_0 hf dX3_aRecord_48
      · refine lv_iconst (v := 1) hx hb dX3_aRecord_43 (by decide) ?_
        refine lv_goto (tgt := 48) hx hb dX3_aRecord_44 (by decide) ?_
        exact m_zretc C hI zb_1 hf dX3_aRecord_48
/-! aRow()Z -/
abbrev rmM_aRow : Room := { frames := 12, cells := 0, slots := 0, locals := 259 }
def fM_aRow_b43 (N : Nat) (x : MS) : Option (Int32 × MS) :=
  b2 (fM_need N x 159) fun v2 x1 =>
  if v2 = 0 then
    some (0, x1)
  else
    some (1, x1)
theorem w_fM_aRow_b43 {N : Nat} {r : Int32} {xr : MS} (C : mC w A p s m args meth c cX3_aRow 1 (some .boolean)) : ∀ (x : MS) (H : Heap) (locs : List Loc) (ls : Array Slot), mI w A x s.heap H locs → lv_has ls 1 [(0, .ref (w.2.2.1 28))] → fM_aRow_b43 N x  = some (r, xr) → W p l e rmM_aRow s m args below meth c H locs 0 0 (MQ below (mQ w A (some (.int r)) xr) args s 0 0 A) (F0 m 43 ls []) := by
  have hx := C.1.1
  have hb := C.1.2.1
  have hown := C.1.2.2.2.1
  have hts := C.1.2.2.2.2.1
  have hE := C.2.2
  intro x  H locs ls hI hl hf
  rw [fM_aRow_b43] at hf
  refine lv_aload_n hx hb dX3_aRow_43 rfl (lv_at hl 0 rfl) ?_
  refine lv_sipush (v := 159) hx hb dX3_aRow_44 (by decide) ?_
  refine m_calli (rest := []) C hI hf (mm_need l N _ _) rfl cqM_need ⟨rfl, rfl⟩ ⟨Nat.le_of_ble_eq_true rfl, Nat.le_of_ble_eq_true rfl⟩ rfl hl.1 rfl (Nat.le_of_ble_eq_true rfl) dX3_aRow_47 (fun v2 x1 H locs hI hf => ?_)
  refine b_ifeq (tgt := 57) hx hb hf dX3_aRow_50 (by decide) (fun hf => ?_) (fun hf => ?_)
  · refine lv_iconst (v := 0) hx hb dX3_aRow_57 (by decide) ?_
    exact m_zretc C hI zb_0 hf dX3_aRow_58
  · refine lv_iconst (v := 1) hx hb dX3_aRow_53 (by decide) ?_
    refine lv_goto (tgt := 58) hx hb dX3_aRow_54 (by decide) ?_
    exact m_zretc C hI zb_1 hf dX3_aRow_58
def fM_aRow (N : Nat) (x : MS) : Option (Int32 × MS) :=
  if (gS x 12) = 1 then
    b2 (fM_aPlan N x) fun v6 x5 =>
    if v6 = 0 then
      some (0, x5)
    else
      fM_aRow_b43 N x5
  else
    if (gS x 12) = 2 then
      b2 (fM_aPhone N x) fun v4 x3 =>
      if v4 = 0 then
        some (0, x3)
      else
        fM_aRow_b43 N x3
    else
      b2 (fM_aRecord N x) fun v2 x1 =>
      if v2 = 0 then
        some (0, x1)
      else
        fM_aRow_b43 N x1
theorem mm_aRow (l : Launch) (N : Nat) {w : mO} {A : Nat → Prop} : ∀ (x : MS) (r : Int32) (xr : MS), fM_aRow N x  = some (r, xr) → mMet l yX3_aRow (ws_ yX3_aRow cX3_aRow 1 (some .boolean)) rmM_aRow [.ref (w.2.2.1 28)] w A x (some (.int r)) xr := by
  intro x  r xr hf
  refine m_start (cc := cX3_aRow) (by decide +kernel) rfl (Nat.le_of_ble_eq_true rfl) rfl ?_
  intro p e s m args below meth c ls H locs C hI hl
  have hx := C.1.1
  have hb := C.1.2.1
  have hown := C.1.2.2.2.1
  have hts := C.1.2.2.2.2.1
  have hE := C.2.2
  rw [fM_aRow] at hf
  refine lv_aload_n hx hb dX3_aRow_0 rfl (lv_at hl 0 rfl) ?_
  refine mg12 C hI dX3_aRow_1 ?_
  refine lv_iconst (v := 1) hx hb dX3_aRow_4 (by decide) ?_
  refine b_icne (tgt := 18) hx hb hf dX3_aRow_5 (by decide) (fun hf => ?_) (fun hf => ?_)
  · refine lv_aload_n hx hb dX3_aRow_18 rfl (lv_at hl 0 rfl) ?_
    refine mg12 C hI dX3_aRow_19 ?_
    refine lv_iconst (v := 2) hx hb dX3_aRow_22 (by decide) ?_
    refine b_icne (tgt := 36) hx hb hf dX3_aRow_23 (by decide) (fun hf => ?_) (fun hf => ?_)
    · refine lv_aload_n hx hb dX3_aRow_36 rfl (lv_at hl 0 rfl) ?_
      refine m_calli (rest := []) C hI hf (mm_aRecord l N _) rfl cqM_aRecord ⟨rfl, rfl⟩ ⟨Nat.le_of_ble_eq_true rfl, Nat.le_of_ble_eq_true rfl⟩ rfl hl.1 rfl (Nat.le_of_ble_eq_true rfl) dX3_aRow_37 (fun v2 x1 H locs hI hf => ?_)
      refine b_ifeq (tgt := 57) hx hb hf dX3_aRow_40 (by decide) (fun hf => ?_) (fun hf => ?_)
      · refine lv_iconst (v := 0) hx hb dX3_aRow_57 (by decide) ?_
        exact m_zretc C hI zb_0 hf dX3_aRow_58
      · exact w_fM_aRow_b43 C x1 _ _ _ hI (lv_sub hl [0] rfl) hf
    · refine lv_aload_n hx hb dX3_aRow_26 rfl (lv_at hl 0 rfl) ?_
      refine m_calli (rest := []) C hI hf (mm_aPhone l N _) rfl cqM_aPhone ⟨rfl, rfl⟩ ⟨Nat.le_of_ble_eq_true rfl, Nat.le_of_ble_eq_true rfl⟩ rfl hl.1 rfl (Nat.le_of_ble_eq_true rfl) dX3_aRow_27 (fun v4 x3 H locs hI hf => ?_)
      refine b_ifeq (tgt := 57) hx hb hf dX3_aRow_30 (by decide) (fun hf => ?_) (fun hf => ?_)
      · refine lv_iconst (v := 0) hx hb dX3_aRow_57 (by decide) ?_
        exact m_zretc C hI zb_0 hf dX3_aRow_58
      · refine lv_goto (tgt := 43) hx hb dX3_aRow_33 (by decide) ?_
        exact w_fM_aRow_b43 C x3 _ _ _ hI (lv_sub hl [0] rfl) hf
  · refine lv_aload_n hx hb dX3_aRow_8 rfl (lv_at hl 0 rfl) ?_
    refine m_calli (rest := []) C hI hf (mm_aPlan l N _) rfl cqM_aPlan ⟨rfl, rfl⟩ ⟨Nat.le_of_ble_eq_true rfl, Nat.le_of_ble_eq_true rfl⟩ rfl hl.1 rfl (Nat.le_of_ble_eq_true rfl) dX3_aRow_9 (fun v6 x5 H locs hI hf => ?_)
    refine b_ifeq (tgt := 57) hx hb hf dX3_aRow_12 (by decide) (fun hf => ?_) (fun hf => ?_)
    · refine lv_iconst (v := 0) hx hb dX3_aRow_57 (by decide) ?_
      exact m_zretc C hI zb_0 hf dX3_aRow_58
    · refine lv_goto (tgt := 43) hx hb dX3_aRow_15 (by decide) ?_
      exact w_fM_aRow_b43 C x5 _ _ _ hI (lv_sub hl [0] rfl) hf
/-! readsRows()Z -/
abbrev rmM_readsRows : Room := { frames := 13, cells := 0, slots := 0, locals := 279 }
def fM_readsRows_b36 (N : Nat) : Nat → MS → Int32 → Int32 → Option (Int32 × MS)
  | 0, _, _, _ => none
  | n + 1, x, l1, l2 =>
  if l2 = 0 then
    some (zb l2, x)
  else
    if (gS x 18) = 0 then
      some (zb l2, x)
    else
      if (gS x 18) = l1 then
        if (gS x 15) = 16 then
          b2 (fM_bad N x 3) fun v5 x4 =>
          some (zb v5, x4)
        else
          b2 (fM_aRow N x) fun v2 x1 =>
          lt (if v2 = 0 then 0 else 1 : Int32) fun v3 =>
          fM_readsRows_b36 N n (sS x1 15 ((gS x1 15) + v3)) l1 v2
      else
        b2 (fM_bad N x 1) fun v7 x6 =>
        some (zb v7, x6)
theorem w_fM_readsRows_b36 {N : Nat} {r : Int32} {xr : MS} (C : mC w A p s m args meth c cX3_readsRows 3 (some .boolean)) : ∀ (n : Nat) (x : MS) (l1 : Int32) (l2 : Int32) (H : Heap) (locs : List Loc) (ls : Array Slot), mI w A x s.heap H locs → lv_has ls 3 [(0, .ref (w.2.2.1 28)), (1, .int l1), (2, .int l2)] → fM_readsRows_b36 N n x l1 l2 = some (r, xr) → W p l e rmM_readsRows s m args below meth c H locs 0 0 (MQ below (mQ w A (some (.int r)) xr) args s 0 0 A) (F0 m 36 ls []) := by
  have hx := C.1.1
  have hb := C.1.2.1
  have hown := C.1.2.2.2.1
  have hts := C.1.2.2.2.2.1
  have hE := C.2.2
  intro n
  induction n with
  | zero => intro x l1 l2 H locs ls hI hl hf; rw [fM_readsRows_b36] at hf; cases hf
  | succ n ih =>
  intro x l1 l2 H locs ls hI hl hf
  rw [fM_readsRows_b36] at hf
  refine lv_iload_n hx hb dX3_readsRows_36 rfl (lv_at hl 2 rfl) ?_
  refine b_ifeq (tgt := 102) hx hb hf dX3_readsRows_37 (by decide) (fun hf => ?_) (fun hf => ?_)
  · refine lv_iload_n hx hb dX3_readsRows_102 rfl (lv_at hl 2 rfl) ?_
    exact m_zret C hI hf dX3_readsRows_103
  · refine lv_aload_n hx hb dX3_readsRows_40 rfl (lv_at hl 0 rfl) ?_
    refine mg18 C hI dX3_readsRows_41 ?_
    refine b_ifeq (tgt := 102) hx hb hf dX3_readsRows_44 (by decide) (fun hf => ?_) (fun hf => ?_)
    · refine lv_iload_n hx hb dX3_readsRows_102 rfl (lv_at hl 2 rfl) ?_
      exact m_zret C hI hf dX3_readsRows_103
    · refine lv_aload_n hx hb dX3_readsRows_47 rfl (lv_at hl 0 rfl) ?_
      refine mg18 C hI dX3_readsRows_48 ?_
      refine lv_iload_n hx hb dX3_readsRows_51 rfl (lv_at hl 1 rfl) ?_
      refine b_iceq (tgt := 61) hx hb hf dX3_readsRows_52 (by decide) (fun hf => ?_) (fun hf => ?_)
      · refine lv_aload_n hx hb dX3_readsRows_61 rfl (lv_at hl 0 rfl) ?_
        refine mg15 C hI dX3_readsRows_62 ?_
        refine lv_bipush (v := 16) hx hb dX3_readsRows_65 (by decide) ?_
        refine b_icne (tgt := 76) hx hb hf dX3_readsRows_67 (by decide) (fun hf => ?_) (fun hf => ?_)
        · refine lv_aload_n hx hb dX3_readsRows_76 rfl (lv_at hl 0 rfl) ?_
          refine m_calli (rest := []) C hI hf (mm_aRow l N _) rfl cqM_aRow ⟨rfl, rfl⟩ ⟨Nat.le_of_ble_eq_true rfl, Nat.le_of_ble_eq_true rfl⟩ rfl hl.1 rfl (Nat.le_of_ble_eq_true rfl) dX3_readsRows_77 (fun v2 x1 H locs hI hf => ?_)
          refine lv_istore_n (lv' := [(2, .int v2), (0, .ref (w.2.2.1 28)), (1, .int l1)]) hx hb dX3_readsRows_80 rfl hl (by decide) rfl (fun ls hl => ?_)
          refine lv_aload_n hx hb dX3_readsRows_81 rfl (lv_at hl 1 rfl) ?_
          refine lv_dup hx hb dX3_readsRows_82 rfl ?_
          refine mg15 C hI dX3_readsRows_83 ?_
          refine lv_iload_n hx hb dX3_readsRows_86 rfl (lv_at hl 0 rfl) ?_
          suffices hJ : ∀ v3 : Int32, (v3 = (if v2 = 0 then 0 else 1 : Int32)) → W p l e rmM_readsRows s m args below meth c H locs 0 0 (MQ below (mQ w A (some (.int r)) xr) args s 0 0 A) (F0 m 95 ls [.int v3, .int (gS x1 15), .ref (w.2.2.1 28)]) by
            refine lv_if_eq (tgt := 94) hx hb dX3_readsRows_87 (by decide) (fun hc => ?_) (fun hc => ?_)
            · refine lv_iconst (v := 0) hx hb dX3_readsRows_94 (by decide) ?_
              exact hJ _ (if_pos hc).symm
            · refine lv_iconst (v := 1) hx hb dX3_readsRows_90 (by decide) ?_
              refine lv_goto (tgt := 95) hx hb dX3_readsRows_91 (by decide) ?_
              exact hJ _ (if_neg hc).symm
          intro v3 hv
          have hf := lt_of hv hf
          refine lv_iadd hx hb dX3_readsRows_95 ?_
          refine mp15 C hI dX3_readsRows_96 (fun H locs hI => ?_)
          refine lv_goto (tgt := 36) hx hb dX3_readsRows_99 (by decide) ?_
          exact ih (sS x1 15 ((gS x1 15) + v3)) l1 v2 _ _ _ hI (lv_sub hl [1, 2, 0] rfl) hf
        · refine lv_aload_n hx hb dX3_readsRows_70 rfl (lv_at hl 0 rfl) ?_
          refine lv_iconst (v := 3) hx hb dX3_readsRows_71 (by decide) ?_
          refine m_calli (rest := []) C hI hf (mm_bad l N _ _) rfl cqM_bad ⟨rfl, rfl⟩ ⟨Nat.le_of_ble_eq_true rfl, Nat.le_of_ble_eq_true rfl⟩ rfl hl.1 rfl (Nat.le_of_ble_eq_true rfl) dX3_readsRows_72 (fun v5 x4 H locs hI hf => ?_)
          exact m_zret C hI hf dX3_readsRows_75
      · refine lv_aload_n hx hb dX3_readsRows_55 rfl (lv_at hl 0 rfl) ?_
        refine lv_iconst (v := 1) hx hb dX3_readsRows_56 (by decide) ?_
        refine m_calli (rest := []) C hI hf (mm_bad l N _ _) rfl cqM_bad ⟨rfl, rfl⟩ ⟨Nat.le_of_ble_eq_true rfl, Nat.le_of_ble_eq_true rfl⟩ rfl hl.1 rfl (Nat.le_of_ble_eq_true rfl) dX3_readsRows_57 (fun v7 x6 H locs hI hf => ?_)
        exact m_zret C hI hf dX3_readsRows_60
def fM_readsRows (N : Nat) (x : MS) : Option (Int32 × MS) :=
  if (gS (sS x 15 0) 12) = 1 then
    fM_readsRows_b36 N N (sS x 15 0) 7 1
  else
    if (gS (sS x 15 0) 12) = 2 then
      fM_readsRows_b36 N N (sS x 15 0) 12 1
    else
      fM_readsRows_b36 N N (sS x 15 0) 15 1
theorem mm_readsRows (l : Launch) (N : Nat) {w : mO} {A : Nat → Prop} : ∀ (x : MS) (r : Int32) (xr : MS), fM_readsRows N x  = some (r, xr) → mMet l yX3_readsRows (ws_ yX3_readsRows cX3_readsRows 3 (some .boolean)) rmM_readsRows [.ref (w.2.2.1 28)] w A x (some (.int r)) xr := by
  intro x  r xr hf
  refine m_start (cc := cX3_readsRows) (by decide +kernel) rfl (Nat.le_of_ble_eq_true rfl) rfl ?_
  intro p e s m args below meth c ls H locs C hI hl
  have hx := C.1.1
  have hb := C.1.2.1
  have hown := C.1.2.2.2.1
  have hts := C.1.2.2.2.2.1
  have hE := C.2.2
  rw [fM_readsRows] at hf
  refine lv_aload_n hx hb dX3_readsRows_0 rfl (lv_at hl 0 rfl) ?_
  refine lv_iconst (v := 0) hx hb dX3_readsRows_1 (by decide) ?_
  refine mp15 C hI dX3_readsRows_2 (fun H locs hI => ?_)
  refine lv_aload_n hx hb dX3_readsRows_5 rfl (lv_at hl 0 rfl) ?_
  refine mg12 C hI dX3_readsRows_6 ?_
  refine lv_iconst (v := 1) hx hb dX3_readsRows_9 (by decide) ?_
  refine b_icne (tgt := 18) hx hb hf dX3_readsRows_10 (by decide) (fun hf => ?_) (fun hf => ?_)
  · refine lv_aload_n hx hb dX3_readsRows_18 rfl (lv_at hl 0 rfl) ?_
    refine mg12 C hI dX3_readsRows_19 ?_
    refine lv_iconst (v := 2) hx hb dX3_readsRows_22 (by decide) ?_
    refine b_icne (tgt := 31) hx hb hf dX3_readsRows_23 (by decide) (fun hf => ?_) (fun hf => ?_)
    · refine lv_bipush (v := 15) hx hb dX3_readsRows_31 (by decide) ?_
      refine lv_istore_n (lv' := [(1, .int 15), (0, .ref (w.2.2.1 28))]) hx hb dX3_readsRows_33 rfl hl (by decide) rfl (fun ls hl => ?_)
      refine lv_iconst (v := 1) hx hb dX3_readsRows_34 (by decide) ?_
      refine lv_istore_n (lv' := [(2, .int 1), (1, .int 15), (0, .ref (w.2.2.1 28))]) hx hb dX3_readsRows_35 rfl hl (by decide) rfl (fun ls hl => ?_)
      exact w_fM_readsRows_b36 C N (sS x 15 0) 15 1 _ _ _ hI (lv_sub hl [2, 1, 0] rfl) hf
    · refine lv_bipush (v := 12) hx hb dX3_readsRows_26 (by decide) ?_
      refine lv_goto (tgt := 33) hx hb dX3_readsRows_28 (by decide) ?_
      refine lv_istore_n (lv' := [(1, .int 12), (0, .ref (w.2.2.1 28))]) hx hb dX3_readsRows_33 rfl hl (by decide) rfl (fun ls hl => ?_)
      refine lv_iconst (v := 1) hx hb dX3_readsRows_34 (by decide) ?_
      refine lv_istore_n (lv' := [(2, .int 1), (1, .int 12), (0, .ref (w.2.2.1 28))]) hx hb dX3_readsRows_35 rfl hl (by decide) rfl (fun ls hl => ?_)
      exact w_fM_readsRows_b36 C N (sS x 15 0) 12 1 _ _ _ hI (lv_sub hl [2, 1, 0] rfl) hf
  · refine lv_bipush (v := 7) hx hb dX3_readsRows_13 (by decide) ?_
    refine lv_goto (tgt := 33) hx hb dX3_readsRows_15 (by decide) ?_
    refine lv_istore_n (lv' := [(1, .int 7), (0, .ref (w.2.2.1 28))]) hx hb dX3_readsRows_33 rfl hl (by decide) rfl (fun ls hl => ?_)
    refine lv_iconst (v := 1) hx hb dX3_readsRows_34 (by decide) ?_
    refine lv_istore_n (lv' := [(2, .int 1), (1, .int 7), (0, .ref (w.2.2.1 28))]) hx hb dX3_readsRows_35 rfl hl (by decide) rfl (fun ls hl => ?_)
    exact w_fM_readsRows_b36 C N (sS x 15 0) 7 1 _ _ _ hI (lv_sub hl [2, 1, 0] rfl) hf
/-! text(I)I -/
abbrev rmM_text : Room := { frames := 53, cells := 0, slots := 0, locals := 1464 }
def fM_text_b60 (N : Nat) (x : MS) (l1 : Int32) (s0 : Int32) : Option (Int32 × MS) :=
  if s0 = 0 then
    some ((-1), sS (sS (sS x 16 0) 23 (gS (sS x 16 0) 21)) 25 (gS (sS (sS x 16 0) 23 (gS (sS x 16 0) 21)) 22))
  else
    b2 (fM_putsText N (sS x 16 0) l1) fun v2 x1 =>
    some (v2, x1)
theorem w_fM_text_b60 {N : Nat} {r : Int32} {xr : MS} (C : mC w A p s m args meth c cX3_text 3 (some .int)) : ∀ (x : MS) (l1 : Int32) (s0 : Int32) (H : Heap) (locs : List Loc) (ls : Array Slot), mI w A x s.heap H locs → lv_has ls 3 [(0, .ref (w.2.2.1 28)), (1, .int l1)] → fM_text_b60 N x l1 s0 = some (r, xr) → W p l e rmM_text s m args below meth c H locs 0 0 (MQ below (mQ w A (some (.int r)) xr) args s 0 0 A) (F0 m 60 ls [.int s0]) := by
  have hx := C.1.1
  have hb := C.1.2.1
  have hown := C.1.2.2.2.1
  have hts := C.1.2.2.2.2.1
  have hE := C.2.2
  intro x l1 s0 H locs ls hI hl hf
  rw [fM_text_b60] at hf
  refine lv_istore_n (lv' := [(2, .int s0), (0, .ref (w.2.2.1 28)), (1, .int l1)]) hx hb dX3_text_60 rfl hl (by decide) rfl (fun ls hl => ?_)
  refine lv_aload_n hx hb dX3_text_61 rfl (lv_at hl 1 rfl) ?_
  refine lv_iconst (v := 0) hx hb dX3_text_62 (by decide) ?_
  refine mp16 C hI dX3_text_63 (fun H locs hI => ?_)
  refine lv_iload_n hx hb dX3_text_66 rfl (lv_at hl 0 rfl) ?_
  refine b_ifeq (tgt := 76) hx hb hf dX3_text_67 (by decide) (fun hf => ?_) (fun hf => ?_)
  · refine lv_aload_n hx hb dX3_text_76 rfl (lv_at hl 1 rfl) ?_
    refine lv_aload_n hx hb dX3_text_77 rfl (lv_at hl 1 rfl) ?_
    refine mg21 C hI dX3_text_78 ?_
    refine mp23 C hI dX3_text_81 (fun H locs hI => ?_)
    refine lv_aload_n hx hb dX3_text_84 rfl (lv_at hl 1 rfl) ?_
    refine lv_aload_n hx hb dX3_text_85 rfl (lv_at hl 1 rfl) ?_
    refine mg22 C hI dX3_text_86 ?_
    refine mp25 C hI dX3_text_89 (fun H locs hI => ?_)
    refine lv_iconst (v := (-1)) hx hb dX3_text_92 (by decide) ?_
    exact m_iret C hI hf dX3_text_93
  · refine lv_aload_n hx hb dX3_text_70 rfl (lv_at hl 1 rfl) ?_
    refine lv_iload_n hx hb dX3_text_71 rfl (lv_at hl 2 rfl) ?_
    refine m_calli (rest := []) C hI hf (mm_putsText l N _ _) rfl cqM_putsText ⟨rfl, rfl⟩ ⟨Nat.le_of_ble_eq_true rfl, Nat.le_of_ble_eq_true rfl⟩ rfl hl.1 rfl (Nat.le_of_ble_eq_true rfl) dX3_text_72 (fun v2 x1 H locs hI hf => ?_)
    exact m_iret C hI hf dX3_text_75
def fM_text (N : Nat) (x : MS) (l1 : Int32) : Option (Int32 × MS) :=
  (fM_isIn N l1 0 3).bind fun v1 =>
  if v1 = 0 then
    some ((-1), sS (sS (sS x 23 0) 25 (-1)) 16 0)
  else
    (fM_next0 N (sS (sS (sS (sS (sS x 23 0) 25 (-1)) 21 0) 17 0) 12 l1)).bind fun x2 =>
    if l1 = 0 then
      b2 (fM_readsLaw N x2) fun v6 x5 =>
      fM_text_b60 N x5 l1 v6
    else
      b2 (fM_readsRows N x2) fun v4 x3 =>
      fM_text_b60 N x3 l1 v4
theorem mm_text (l : Launch) (N : Nat) {w : mO} {A : Nat → Prop} : ∀ (x : MS) (l1 : Int32) (r : Int32) (xr : MS), fM_text N x l1 = some (r, xr) → mMet l yX3_text (ws_ yX3_text cX3_text 3 (some .int)) rmM_text [.ref (w.2.2.1 28), .int l1] w A x (some (.int r)) xr := by
  intro x l1 r xr hf
  refine m_start (cc := cX3_text) (by decide +kernel) rfl (Nat.le_of_ble_eq_true rfl) rfl ?_
  intro p e s m args below meth c ls H locs C hI hl
  have hx := C.1.1
  have hb := C.1.2.1
  have hown := C.1.2.2.2.1
  have hts := C.1.2.2.2.2.1
  have hE := C.2.2
  rw [fM_text] at hf
  refine lv_aload_n hx hb dX3_text_0 rfl (lv_at hl 0 rfl) ?_
  refine lv_iconst (v := 0) hx hb dX3_text_1 (by decide) ?_
  refine mp23 C hI dX3_text_2 (fun H locs hI => ?_)
  refine lv_aload_n hx hb dX3_text_5 rfl (lv_at hl 0 rfl) ?_
  refine lv_iconst (v := (-1)) hx hb dX3_text_6 (by decide) ?_
  refine mp25 C hI dX3_text_7 (fun H locs hI => ?_)
  refine lv_iload_n hx hb dX3_text_10 rfl (lv_at hl 1 rfl) ?_
  refine lv_iconst (v := 0) hx hb dX3_text_11 (by decide) ?_
  refine lv_iconst (v := 3) hx hb dX3_text_12 (by decide) ?_
  refine g_calliS (rest := []) C.1 hf (smM_isIn l N _ _ _) cqM_M_isIn ⟨rfl, rfl⟩ ⟨Nat.le_of_ble_eq_true rfl, Nat.le_of_ble_eq_true rfl⟩ rfl hl.1 rfl (Nat.le_of_ble_eq_true rfl) ⟨Nat.zero_le _, Nat.zero_le _⟩ dX3_text_13 (fun v1 hf => ?_)
  refine b_ifne (tgt := 26) hx hb hf dX3_text_16 (by decide) (fun hf => ?_) (fun hf => ?_)
  · refine lv_aload_n hx hb dX3_text_26 rfl (lv_at hl 0 rfl) ?_
    refine lv_iconst (v := 0) hx hb dX3_text_27 (by decide) ?_
    refine mp21 C hI dX3_text_28 (fun H locs hI => ?_)
    refine lv_aload_n hx hb dX3_text_31 rfl (lv_at hl 0 rfl) ?_
    refine lv_iconst (v := 0) hx hb dX3_text_32 (by decide) ?_
    refine mp17 C hI dX3_text_33 (fun H locs hI => ?_)
    refine lv_aload_n hx hb dX3_text_36 rfl (lv_at hl 0 rfl) ?_
    refine lv_iload_n hx hb dX3_text_37 rfl (lv_at hl 1 rfl) ?_
    refine mp12 C hI dX3_text_38 (fun H locs hI => ?_)
    refine lv_aload_n hx hb dX3_text_41 rfl (lv_at hl 0 rfl) ?_
    refine m_callv (rest := []) C hI hf (mm_next0 l N _) rfl cqM_next0 ⟨rfl, rfl⟩ ⟨Nat.le_of_ble_eq_true rfl, Nat.le_of_ble_eq_true rfl⟩ rfl hl.1 rfl (Nat.le_of_ble_eq_true rfl) dX3_text_42 (fun x2 H locs hI hf => ?_)
    refine lv_iload_n hx hb dX3_text_45 rfl (lv_at hl 1 rfl) ?_
    refine b_ifne (tgt := 56) hx hb hf dX3_text_46 (by decide) (fun hf => ?_) (fun hf => ?_)
    · refine lv_aload_n hx hb dX3_text_56 rfl (lv_at hl 0 rfl) ?_
      refine m_calli (rest := []) C hI hf (mm_readsRows l N _) rfl cqM_readsRows ⟨rfl, rfl⟩ ⟨Nat.le_of_ble_eq_true rfl, Nat.le_of_ble_eq_true rfl⟩ rfl hl.1 rfl (Nat.le_of_ble_eq_true rfl) dX3_text_57 (fun v4 x3 H locs hI hf => ?_)
      exact w_fM_text_b60 C x3 l1 v4 _ _ _ hI (lv_sub hl [0, 1] rfl) hf
    · refine lv_aload_n hx hb dX3_text_49 rfl (lv_at hl 0 rfl) ?_
      refine m_calli (rest := []) C hI hf (mm_readsLaw l N _) rfl cqM_readsLaw ⟨rfl, rfl⟩ ⟨Nat.le_of_ble_eq_true rfl, Nat.le_of_ble_eq_true rfl⟩ rfl hl.1 rfl (Nat.le_of_ble_eq_true rfl) dX3_text_50 (fun v6 x5 H locs hI hf => ?_)
      refine lv_goto (tgt := 60) hx hb dX3_text_53 (by decide) ?_
      exact w_fM_text_b60 C x5 l1 v6 _ _ _ hI (lv_sub hl [0, 1] rfl) hf
  · refine lv_aload_n hx hb dX3_text_19 rfl (lv_at hl 0 rfl) ?_
    refine lv_iconst (v := 0) hx hb dX3_text_20 (by decide) ?_
    refine mp16 C hI dX3_text_21 (fun H locs hI => ?_)
    refine lv_iconst (v := (-1)) hx hb dX3_text_24 (by decide) ?_
    exact m_iret C hI hf dX3_text_25
/-! fault(I)I -/
abbrev rmM_fault : Room := { frames := 0, cells := 0, slots := 0, locals := 0 }
def fM_fault (N : Nat) (x : MS) (l1 : Int32) : Option (Int32 × MS) :=
  if l1 = 0 then
    some (gS x 23, x)
  else
    if l1 = 1 then
      some (gS x 25, x)
    else
      some ((-1), x)
theorem mm_fault (l : Launch) (N : Nat) {w : mO} {A : Nat → Prop} : ∀ (x : MS) (l1 : Int32) (r : Int32) (xr : MS), fM_fault N x l1 = some (r, xr) → mMet l yX3_fault (ws_ yX3_fault cX3_fault 2 (some .int)) rmM_fault [.ref (w.2.2.1 28), .int l1] w A x (some (.int r)) xr := by
  intro x l1 r xr hf
  refine m_start (cc := cX3_fault) (by decide +kernel) rfl (Nat.le_of_ble_eq_true rfl) rfl ?_
  intro p e s m args below meth c ls H locs C hI hl
  have hx := C.1.1
  have hb := C.1.2.1
  have hown := C.1.2.2.2.1
  have hts := C.1.2.2.2.2.1
  have hE := C.2.2
  rw [fM_fault] at hf
  refine lv_iload_n hx hb dX3_fault_0 rfl (lv_at hl 1 rfl) ?_
  refine b_ifne (tgt := 11) hx hb hf dX3_fault_1 (by decide) (fun hf => ?_) (fun hf => ?_)
  · refine lv_iload_n hx hb dX3_fault_11 rfl (lv_at hl 1 rfl) ?_
    refine lv_iconst (v := 1) hx hb dX3_fault_12 (by decide) ?_
    refine b_icne (tgt := 23) hx hb hf dX3_fault_13 (by decide) (fun hf => ?_) (fun hf => ?_)
    · refine lv_iconst (v := (-1)) hx hb dX3_fault_23 (by decide) ?_
      exact m_iret C hI hf dX3_fault_24
    · refine lv_aload_n hx hb dX3_fault_16 rfl (lv_at hl 0 rfl) ?_
      refine mg25 C hI dX3_fault_17 ?_
      refine lv_goto (tgt := 24) hx hb dX3_fault_20 (by decide) ?_
      exact m_iret C hI hf dX3_fault_24
  · refine lv_aload_n hx hb dX3_fault_4 rfl (lv_at hl 0 rfl) ?_
    refine mg23 C hI dX3_fault_5 ?_
    refine lv_goto (tgt := 24) hx hb dX3_fault_8 (by decide) ?_
    exact m_iret C hI hf dX3_fault_24
/-! undo()Z -/
abbrev rmM_undo : Room := { frames := 0, cells := 0, slots := 0, locals := 0 }
def fM_undo_b21 (N : Nat) : Nat → MS → Int32 → Option (Int32 × MS)
  | 0, _, _ => none
  | n + 1, x, l1 =>
  if 88 ≤ l1 then
    some (1, x)
  else
    (rd 528 (gA x 2) ((88 * (gS x 4)) + l1)).bind fun v1 =>
    (wr x 0 1725 l1 v1).bind fun x2 =>
    fM_undo_b21 N n x2 (l1 + 1)
theorem w_fM_undo_b21 {N : Nat} {r : Int32} {xr : MS} (C : mC w A p s m args meth c cX3_undo 2 (some .boolean)) : ∀ (n : Nat) (x : MS) (l1 : Int32) (H : Heap) (locs : List Loc) (ls : Array Slot), mI w A x s.heap H locs → lv_has ls 2 [(0, .ref (w.2.2.1 28)), (1, .int l1)] → fM_undo_b21 N n x l1 = some (r, xr) → W p l e rmM_undo s m args below meth c H locs 0 0 (MQ below (mQ w A (some (.int r)) xr) args s 0 0 A) (F0 m 21 ls []) := by
  have hx := C.1.1
  have hb := C.1.2.1
  have hown := C.1.2.2.2.1
  have hts := C.1.2.2.2.2.1
  have hE := C.2.2
  intro n
  induction n with
  | zero => intro x l1 H locs ls hI hl hf; rw [fM_undo_b21] at hf; cases hf
  | succ n ih =>
  intro x l1 H locs ls hI hl hf
  rw [fM_undo_b21] at hf
  refine lv_iload_n hx hb dX3_undo_21 rfl (lv_at hl 1 rfl) ?_
  refine lv_bipush (v := 88) hx hb dX3_undo_22 (by decide) ?_
  refine b_icge (tgt := 53) hx hb hf dX3_undo_24 (by decide) (fun hf => ?_) (fun hf => ?_)
  · refine lv_iconst (v := 1) hx hb dX3_undo_53 (by decide) ?_
    exact m_zretc C hI zb_1 hf dX3_undo_54
  · refine lv_aload_n hx hb dX3_undo_27 rfl (lv_at hl 0 rfl) ?_
    refine mg0 C hI dX3_undo_28 ?_
    refine lv_iload_n hx hb dX3_undo_31 rfl (lv_at hl 1 rfl) ?_
    refine lv_aload_n hx hb dX3_undo_32 rfl (lv_at hl 0 rfl) ?_
    refine mg2 C hI dX3_undo_33 ?_
    refine lv_bipush (v := 88) hx hb dX3_undo_36 (by decide) ?_
    refine lv_aload_n hx hb dX3_undo_38 rfl (lv_at hl 0 rfl) ?_
    refine mg4 C hI dX3_undo_39 ?_
    refine lv_imul hx hb dX3_undo_42 ?_
    refine lv_iload_n hx hb dX3_undo_43 rfl (lv_at hl 1 rfl) ?_
    refine lv_iadd hx hb dX3_undo_44 ?_
    refine ma2 C hI hf dX3_undo_45 (fun v1 hf => ?_)
    refine ms0 C hI hf dX3_undo_46 (fun x2 H locs hI hf => ?_)
    refine lv_iinc (v := l1 + 1) (lv' := [(1, .int (l1 + 1)), (0, .ref (w.2.2.1 28))]) hx hb dX3_undo_47 hl (k := 1) rfl rfl (by decide) rfl (fun ls hl => ?_)
    refine lv_goto (tgt := 21) hx hb dX3_undo_50 (by decide) ?_
    exact ih x2 (l1 + 1) _ _ _ hI (lv_sub hl [1, 0] rfl) hf
def fM_undo (N : Nat) (x : MS) : Option (Int32 × MS) :=
  if (gS x 4) = 0 then
    some (0, x)
  else
    fM_undo_b21 N N (sS x 4 ((gS x 4) - 1)) 0
theorem mm_undo (l : Launch) (N : Nat) {w : mO} {A : Nat → Prop} : ∀ (x : MS) (r : Int32) (xr : MS), fM_undo N x  = some (r, xr) → mMet l yX3_undo (ws_ yX3_undo cX3_undo 2 (some .boolean)) rmM_undo [.ref (w.2.2.1 28)] w A x (some (.int r)) xr := by
  intro x  r xr hf
  refine m_start (cc := cX3_undo) (by decide +kernel) rfl (Nat.le_of_ble_eq_true rfl) rfl ?_
  intro p e s m args below meth c ls H locs C hI hl
  have hx := C.1.1
  have hb := C.1.2.1
  have hown := C.1.2.2.2.1
  have hts := C.1.2.2.2.2.1
  have hE := C.2.2
  rw [fM_undo] at hf
  refine lv_aload_n hx hb dX3_undo_0 rfl (lv_at hl 0 rfl) ?_
  refine mg4 C hI dX3_undo_1 ?_
  refine b_ifne (tgt := 9) hx hb hf dX3_undo_4 (by decide) (fun hf => ?_) (fun hf => ?_)
  · refine lv_aload_n hx hb dX3_undo_9 rfl (lv_at hl 0 rfl) ?_
    refine lv_dup hx hb dX3_undo_10 rfl ?_
    refine mg4 C hI dX3_undo_11 ?_
    refine lv_iconst (v := 1) hx hb dX3_undo_14 (by decide) ?_
    refine lv_isub hx hb dX3_undo_15 ?_
    refine mp4 C hI dX3_undo_16 (fun H locs hI => ?_)
    refine lv_iconst (v := 0) hx hb dX3_undo_19 (by decide) ?_
    refine lv_istore_n (lv' := [(1, .int 0), (0, .ref (w.2.2.1 28))]) hx hb dX3_undo_20 rfl hl (by decide) rfl (fun ls hl => ?_)
    exact w_fM_undo_b21 C N (sS x 4 ((gS x 4) - 1)) 0 _ _ _ hI (lv_sub hl [1, 0] rfl) hf
  · refine lv_iconst (v := 0) hx hb dX3_undo_7 (by decide) ?_
    exact m_zretc C hI zb_0 hf dX3_undo_8
/-! comesTo(III)I -/
abbrev rmM_comesTo : Room := { frames := 1, cells := 0, slots := 0, locals := 22 }
def fM_comesTo_b6 (N : Nat) : Nat → MS → Int32 → Int32 → Int32 → Int32 → Option (Int32 × MS)
  | 0, _, _, _, _, _ => none
  | n + 1, x, l1, l3, l4, l5 =>
  if l3 ≤ l5 then
    some (gA x 10 0, x)
  else
    (rd 1725 (gA x 0) ((905 + (820 * l1)) + (2 * l5))).bind fun v1 =>
    (rd 1725 (gA x 0) (((905 + (820 * l1)) + (2 * l5)) + 1)).bind fun v2 =>
    if 23 ≤ v1 then
      if v1 = 26 then
        (rd 420 (gA x 10) (l4 - 1)).bind fun v9 =>
        (dv v9 v2).bind fun v10 =>
        (wr x 10 420 (l4 - 1) v10).bind fun x11 =>
        fM_comesTo_b6 N n x11 l1 l3 l4 (l5 + 1)
      else
        if v1 = 30 then
          (rd 420 (gA x 10) (l4 - 1)).bind fun v7 =>
          (wr x 10 420 (l4 - 1) (1 - v7)).bind fun x8 =>
          fM_comesTo_b6 N n x8 l1 l3 l4 (l5 + 1)
        else
          (rd 420 (gA x 10) ((l4 + (-1)) - 1)).bind fun v3 =>
          (rd 420 (gA x 10) (l4 + (-1))).bind fun v4 =>
          (fM_both N v1 v3 v4).bind fun v5 =>
          (wr x 10 420 ((l4 + (-1)) - 1) v5).bind fun x6 =>
          fM_comesTo_b6 N n x6 l1 l3 (l4 + (-1)) (l5 + 1)
    else
      if v1 = 0 then
        (wr x 10 420 l4 v2).bind fun x14 =>
        fM_comesTo_b6 N n x14 l1 l3 (l4 + 1) (l5 + 1)
      else
        (rd 10 (gA x 11) v1).bind fun v12 =>
        (wr x 10 420 l4 v12).bind fun x13 =>
        fM_comesTo_b6 N n x13 l1 l3 (l4 + 1) (l5 + 1)
theorem w_fM_comesTo_b6 {N : Nat} {r : Int32} {xr : MS} (C : mC w A p s m args meth c cX3_comesTo 8 (some .int)) : ∀ (n : Nat) (x : MS) (l1 : Int32) (l3 : Int32) (l4 : Int32) (l5 : Int32) (H : Heap) (locs : List Loc) (ls : Array Slot), mI w A x s.heap H locs → lv_has ls 8 [(0, .ref (w.2.2.1 28)), (1, .int l1), (3, .int l3), (4, .int l4), (5, .int l5)] → fM_comesTo_b6 N n x l1 l3 l4 l5 = some (r, xr) → W p l e rmM_comesTo s m args below meth c H locs 0 0 (MQ below (mQ w A (some (.int r)) xr) args s 0 0 A) (F0 m 6 ls []) := by
  have hx := C.1.1
  have hb := C.1.2.1
  have hown := C.1.2.2.2.1
  have hts := C.1.2.2.2.2.1
  have hE := C.2.2
  intro n
  induction n with
  | zero => intro x l1 l3 l4 l5 H locs ls hI hl hf; rw [fM_comesTo_b6] at hf; cases hf
  | succ n ih =>
  intro x l1 l3 l4 l5 H locs ls hI hl hf
  rw [fM_comesTo_b6] at hf
  refine lv_iload hx hb dX3_comesTo_6 (lv_at hl 4 rfl) ?_
  refine lv_iload_n hx hb dX3_comesTo_8 rfl (lv_at hl 2 rfl) ?_
  refine b_icge (tgt := 186) hx hb hf dX3_comesTo_9 (by decide) (fun hf => ?_) (fun hf => ?_)
  · refine lv_aload_n hx hb dX3_comesTo_186 rfl (lv_at hl 0 rfl) ?_
    refine mg10 C hI dX3_comesTo_187 ?_
    refine lv_iconst (v := 0) hx hb dX3_comesTo_190 (by decide) ?_
    refine mac10 C hI rc420_0 dX3_comesTo_191 ?_
    exact m_iret C hI hf dX3_comesTo_192
  · refine lv_aload_n hx hb dX3_comesTo_12 rfl (lv_at hl 0 rfl) ?_
    refine mg0 C hI dX3_comesTo_13 ?_
    refine lv_sipush (v := 905) hx hb dX3_comesTo_16 (by decide) ?_
    refine lv_sipush (v := 820) hx hb dX3_comesTo_19 (by decide) ?_
    refine lv_iload_n hx hb dX3_comesTo_22 rfl (lv_at hl 1 rfl) ?_
    refine lv_imul hx hb dX3_comesTo_23 ?_
    refine lv_iadd hx hb dX3_comesTo_24 ?_
    refine lv_iconst (v := 2) hx hb dX3_comesTo_25 (by decide) ?_
    refine lv_iload hx hb dX3_comesTo_26 (lv_at hl 4 rfl) ?_
    refine lv_imul hx hb dX3_comesTo_28 ?_
    refine lv_iadd hx hb dX3_comesTo_29 ?_
    refine ma0 C hI hf dX3_comesTo_30 (fun v1 hf => ?_)
    refine lv_istore (lv' := [(6, .int v1), (0, .ref (w.2.2.1 28)), (1, .int l1), (3, .int l3), (4, .int l4), (5, .int l5)]) hx hb dX3_comesTo_31 hl (by decide) rfl (fun ls hl => ?_)
    refine lv_aload_n hx hb dX3_comesTo_33 rfl (lv_at hl 1 rfl) ?_
    refine mg0 C hI dX3_comesTo_34 ?_
    refine lv_sipush (v := 905) hx hb dX3_comesTo_37 (by decide) ?_
    refine lv_sipush (v := 820) hx hb dX3_comesTo_40 (by decide) ?_
    refine lv_iload_n hx hb dX3_comesTo_43 rfl (lv_at hl 2 rfl) ?_
    refine lv_imul hx hb dX3_comesTo_44 ?_
    refine lv_iadd hx hb dX3_comesTo_45 ?_
    refine lv_iconst (v := 2) hx hb dX3_comesTo_46 (by decide) ?_
    refine lv_iload hx hb dX3_comesTo_47 (lv_at hl 5 rfl) ?_
    refine lv_imul hx hb dX3_comesTo_49 ?_
    refine lv_iadd hx hb dX3_comesTo_50 ?_
    refine lv_iconst (v := 1) hx hb dX3_comesTo_51 (by decide) ?_
    refine lv_iadd hx hb dX3_comesTo_52 ?_
    refine ma0 C hI hf dX3_comesTo_53 (fun v2 hf => ?_)
    refine lv_istore (lv' := [(7, .int v2), (6, .int v1), (0, .ref (w.2.2.1 28)), (1, .int l1), (3, .int l3), (4, .int l4), (5, .int l5)]) hx hb dX3_comesTo_54 hl (by decide) rfl (fun ls hl => ?_)
    refine lv_iload hx hb dX3_comesTo_56 (lv_at hl 1 rfl) ?_
    refine lv_bipush (v := 23) hx hb dX3_comesTo_58 (by decide) ?_
    refine b_icge (tgt := 93) hx hb hf dX3_comesTo_60 (by decide) (fun hf => ?_) (fun hf => ?_)
    · refine lv_iload hx hb dX3_comesTo_93 (lv_at hl 1 rfl) ?_
      refine lv_bipush (v := 26) hx hb dX3_comesTo_95 (by decide) ?_
      refine b_icne (tgt := 117) hx hb hf dX3_comesTo_97 (by decide) (fun hf => ?_) (fun hf => ?_)
      · refine lv_iload hx hb dX3_comesTo_117 (lv_at hl 1 rfl) ?_
        refine lv_bipush (v := 30) hx hb dX3_comesTo_119 (by decide) ?_
        refine b_icne (tgt := 147) hx hb hf dX3_comesTo_121 (by decide) (fun hf => ?_) (fun hf => ?_)
        · refine lv_iinc (v := l4 + (-1)) (lv' := [(4, .int (l4 + (-1))), (7, .int v2), (6, .int v1), (0, .ref (w.2.2.1 28)), (1, .int l1), (3, .int l3), (5, .int l5)]) hx hb dX3_comesTo_147 hl (k := 5) rfl rfl (by decide) rfl (fun ls hl => ?_)
          refine lv_aload_n hx hb dX3_comesTo_150 rfl (lv_at hl 3 rfl) ?_
          refine mg10 C hI dX3_comesTo_151 ?_
          refine lv_iload hx hb dX3_comesTo_154 (lv_at hl 0 rfl) ?_
          refine lv_iconst (v := 1) hx hb dX3_comesTo_156 (by decide) ?_
          refine lv_isub hx hb dX3_comesTo_157 ?_
          refine lv_iload hx hb dX3_comesTo_158 (lv_at hl 2 rfl) ?_
          refine lv_aload_n hx hb dX3_comesTo_160 rfl (lv_at hl 3 rfl) ?_
          refine mg10 C hI dX3_comesTo_161 ?_
          refine lv_iload hx hb dX3_comesTo_164 (lv_at hl 0 rfl) ?_
          refine lv_iconst (v := 1) hx hb dX3_comesTo_166 (by decide) ?_
          refine lv_isub hx hb dX3_comesTo_167 ?_
          refine ma10 C hI hf dX3_comesTo_168 (fun v3 hf => ?_)
          refine lv_aload_n hx hb dX3_comesTo_169 rfl (lv_at hl 3 rfl) ?_
          refine mg10 C hI dX3_comesTo_170 ?_
          refine lv_iload hx hb dX3_comesTo_173 (lv_at hl 0 rfl) ?_
          refine ma10 C hI hf dX3_comesTo_175 (fun v4 hf => ?_)
          refine g_calliS (rest := [.int ((l4 + (-1)) - 1), .ref (w.2.2.1 10)]) C.1 hf (smM_both l N _ _ _) cqM_M_both ⟨rfl, rfl⟩ ⟨Nat.le_of_ble_eq_true rfl, Nat.le_of_ble_eq_true rfl⟩ rfl hl.1 rfl (Nat.le_of_ble_eq_true rfl) ⟨Nat.zero_le _, Nat.zero_le _⟩ dX3_comesTo_176 (fun v5 hf => ?_)
          refine ms10 C hI hf dX3_comesTo_179 (fun x6 H locs hI hf => ?_)
          refine lv_iinc (v := l5 + 1) (lv' := [(5, .int (l5 + 1)), (4, .int (l4 + (-1))), (7, .int v2), (6, .int v1), (0, .ref (w.2.2.1 28)), (1, .int l1), (3, .int l3)]) hx hb dX3_comesTo_180 hl (k := 6) rfl rfl (by decide) rfl (fun ls hl => ?_)
          refine lv_goto (tgt := 6) hx hb dX3_comesTo_183 (by decide) ?_
          exact ih x6 l1 l3 (l4 + (-1)) (l5 + 1) _ _ _ hI (lv_sub hl [4, 5, 6, 1, 0] rfl) hf
        · refine lv_aload_n hx hb dX3_comesTo_124 rfl (lv_at hl 2 rfl) ?_
          refine mg10 C hI dX3_comesTo_125 ?_
          refine lv_iload hx hb dX3_comesTo_128 (lv_at hl 5 rfl) ?_
          refine lv_iconst (v := 1) hx hb dX3_comesTo_130 (by decide) ?_
          refine lv_isub hx hb dX3_comesTo_131 ?_
          refine lv_iconst (v := 1) hx hb dX3_comesTo_132 (by decide) ?_
          refine lv_aload_n hx hb dX3_comesTo_133 rfl (lv_at hl 2 rfl) ?_
          refine mg10 C hI dX3_comesTo_134 ?_
          refine lv_iload hx hb dX3_comesTo_137 (lv_at hl 5 rfl) ?_
          refine lv_iconst (v := 1) hx hb dX3_comesTo_139 (by decide) ?_
          refine lv_isub hx hb dX3_comesTo_140 ?_
          refine ma10 C hI hf dX3_comesTo_141 (fun v7 hf => ?_)
          refine lv_isub hx hb dX3_comesTo_142 ?_
          refine ms10 C hI hf dX3_comesTo_143 (fun x8 H locs hI hf => ?_)
          refine lv_goto (tgt := 180) hx hb dX3_comesTo_144 (by decide) ?_
          refine lv_iinc (v := l5 + 1) (lv' := [(5, .int (l5 + 1)), (7, .int v2), (6, .int v1), (0, .ref (w.2.2.1 28)), (1, .int l1), (3, .int l3), (4, .int l4)]) hx hb dX3_comesTo_180 hl (k := 6) rfl rfl (by decide) rfl (fun ls hl => ?_)
          refine lv_goto (tgt := 6) hx hb dX3_comesTo_183 (by decide) ?_
          exact ih x8 l1 l3 l4 (l5 + 1) _ _ _ hI (lv_sub hl [3, 4, 5, 6, 0] rfl) hf
      · refine lv_aload_n hx hb dX3_comesTo_100 rfl (lv_at hl 2 rfl) ?_
        refine mg10 C hI dX3_comesTo_101 ?_
        refine lv_iload hx hb dX3_comesTo_104 (lv_at hl 5 rfl) ?_
        refine lv_iconst (v := 1) hx hb dX3_comesTo_106 (by decide) ?_
        refine lv_isub hx hb dX3_comesTo_107 ?_
        refine lv_dup2_11 hx hb dX3_comesTo_108 rfl rfl ?_
        refine ma10 C hI hf dX3_comesTo_109 (fun v9 hf => ?_)
        refine lv_iload hx hb dX3_comesTo_110 (lv_at hl 0 rfl) ?_
        refine b_idiv hx hb hf dX3_comesTo_112 (fun v10 hf => ?_)
        refine ms10 C hI hf dX3_comesTo_113 (fun x11 H locs hI hf => ?_)
        refine lv_goto (tgt := 180) hx hb dX3_comesTo_114 (by decide) ?_
        refine lv_iinc (v := l5 + 1) (lv' := [(5, .int (l5 + 1)), (7, .int v2), (6, .int v1), (0, .ref (w.2.2.1 28)), (1, .int l1), (3, .int l3), (4, .int l4)]) hx hb dX3_comesTo_180 hl (k := 6) rfl rfl (by decide) rfl (fun ls hl => ?_)
        refine lv_goto (tgt := 6) hx hb dX3_comesTo_183 (by decide) ?_
        exact ih x11 l1 l3 l4 (l5 + 1) _ _ _ hI (lv_sub hl [3, 4, 5, 6, 0] rfl) hf
    · refine lv_aload_n hx hb dX3_comesTo_63 rfl (lv_at hl 2 rfl) ?_
      refine mg10 C hI dX3_comesTo_64 ?_
      refine lv_iload hx hb dX3_comesTo_67 (lv_at hl 5 rfl) ?_
      refine lv_iload hx hb dX3_comesTo_69 (lv_at hl 1 rfl) ?_
      refine b_ifne (tgt := 79) hx hb hf dX3_comesTo_71 (by decide) (fun hf => ?_) (fun hf => ?_)
      · refine lv_aload_n hx hb dX3_comesTo_79 rfl (lv_at hl 2 rfl) ?_
        refine mg11 C hI dX3_comesTo_80 ?_
        refine lv_iload hx hb dX3_comesTo_83 (lv_at hl 1 rfl) ?_
        refine ma11 C hI hf dX3_comesTo_85 (fun v12 hf => ?_)
        refine ms10 C hI hf dX3_comesTo_86 (fun x13 H locs hI hf => ?_)
        refine lv_iinc (v := l4 + 1) (lv' := [(4, .int (l4 + 1)), (7, .int v2), (6, .int v1), (0, .ref (w.2.2.1 28)), (1, .int l1), (3, .int l3), (5, .int l5)]) hx hb dX3_comesTo_87 hl (k := 5) rfl rfl (by decide) rfl (fun ls hl => ?_)
        refine lv_goto (tgt := 180) hx hb dX3_comesTo_90 (by decide) ?_
        refine lv_iinc (v := l5 + 1) (lv' := [(5, .int (l5 + 1)), (4, .int (l4 + 1)), (7, .int v2), (6, .int v1), (0, .ref (w.2.2.1 28)), (1, .int l1), (3, .int l3)]) hx hb dX3_comesTo_180 hl (k := 6) rfl rfl (by decide) rfl (fun ls hl => ?_)
        refine lv_goto (tgt := 6) hx hb dX3_comesTo_183 (by decide) ?_
        exact ih x13 l1 l3 (l4 + 1) (l5 + 1) _ _ _ hI (lv_sub hl [4, 5, 6, 1, 0] rfl) hf
      · refine lv_iload hx hb dX3_comesTo_74 (lv_at hl 0 rfl) ?_
        refine lv_goto (tgt := 86) hx hb dX3_comesTo_76 (by decide) ?_
        refine ms10 C hI hf dX3_comesTo_86 (fun x14 H locs hI hf => ?_)
        refine lv_iinc (v := l4 + 1) (lv' := [(4, .int (l4 + 1)), (7, .int v2), (6, .int v1), (0, .ref (w.2.2.1 28)), (1, .int l1), (3, .int l3), (5, .int l5)]) hx hb dX3_comesTo_87 hl (k := 5) rfl rfl (by decide) rfl (fun ls hl => ?_)
        refine lv_goto (tgt := 180) hx hb dX3_comesTo_90 (by decide) ?_
        refine lv_iinc (v := l5 + 1) (lv' := [(5, .int (l5 + 1)), (4, .int (l4 + 1)), (7, .int v2), (6, .int v1), (0, .ref (w.2.2.1 28)), (1, .int l1), (3, .int l3)]) hx hb dX3_comesTo_180 hl (k := 6) rfl rfl (by decide) rfl (fun ls hl => ?_)
        refine lv_goto (tgt := 6) hx hb dX3_comesTo_183 (by decide) ?_
        exact ih x14 l1 l3 (l4 + 1) (l5 + 1) _ _ _ hI (lv_sub hl [4, 5, 6, 1, 0] rfl) hf
def fM_comesTo (N : Nat) (x : MS) (l1 : Int32) (l2 : Int32) (l3 : Int32) : Option (Int32 × MS) :=
  fM_comesTo_b6 N N x l1 l3 0 l2
theorem mm_comesTo (l : Launch) (N : Nat) {w : mO} {A : Nat → Prop} : ∀ (x : MS) (l1 : Int32) (l2 : Int32) (l3 : Int32) (r : Int32) (xr : MS), fM_comesTo N x l1 l2 l3 = some (r, xr) → mMet l yX3_comesTo (ws_ yX3_comesTo cX3_comesTo 8 (some .int)) rmM_comesTo [.ref (w.2.2.1 28), .int l1, .int l2, .int l3] w A x (some (.int r)) xr := by
  intro x l1 l2 l3 r xr hf
  refine m_start (cc := cX3_comesTo) (by decide +kernel) rfl (Nat.le_of_ble_eq_true rfl) rfl ?_
  intro p e s m args below meth c ls H locs C hI hl
  have hx := C.1.1
  have hb := C.1.2.1
  have hown := C.1.2.2.2.1
  have hts := C.1.2.2.2.2.1
  have hE := C.2.2
  rw [fM_comesTo] at hf
  refine lv_iconst (v := 0) hx hb dX3_comesTo_0 (by decide) ?_
  refine lv_istore (lv' := [(4, .int 0), (0, .ref (w.2.2.1 28)), (1, .int l1), (2, .int l2), (3, .int l3)]) hx hb dX3_comesTo_1 hl (by decide) rfl (fun ls hl => ?_)
  refine lv_iload_n hx hb dX3_comesTo_3 rfl (lv_at hl 3 rfl) ?_
  refine lv_istore (lv' := [(5, .int l2), (4, .int 0), (0, .ref (w.2.2.1 28)), (1, .int l1), (2, .int l2), (3, .int l3)]) hx hb dX3_comesTo_4 hl (by decide) rfl (fun ls hl => ?_)
  exact w_fM_comesTo_b6 C N x l1 l3 0 l2 _ _ _ hI (lv_sub hl [2, 3, 5, 1, 0] rfl) hf
/-! isSo(I)Z -/
abbrev rmM_isSo : Room := { frames := 2, cells := 0, slots := 0, locals := 49 }
def fM_isSo (N : Nat) (x : MS) (l1 : Int32) : Option (Int32 × MS) :=
  (rd 1725 (gA x 0) (873 + l1)).bind fun v1 =>
  (rd 1725 (gA x 0) (857 + l1)).bind fun v2 =>
  if v1 = v2 then
    some (1, x)
  else
    (rd 1725 (gA x 0) (857 + l1)).bind fun v3 =>
    (rd 1725 (gA x 0) (873 + l1)).bind fun v4 =>
    b2 (fM_comesTo N x 0 v3 v4) fun v6 x5 =>
    if v6 = 1 then
      some (1, x5)
    else
      some (0, x5)
theorem mm_isSo (l : Launch) (N : Nat) {w : mO} {A : Nat → Prop} : ∀ (x : MS) (l1 : Int32) (r : Int32) (xr : MS), fM_isSo N x l1 = some (r, xr) → mMet l yX3_isSo (ws_ yX3_isSo cX3_isSo 2 (some .boolean)) rmM_isSo [.ref (w.2.2.1 28), .int l1] w A x (some (.int r)) xr := by
  intro x l1 r xr hf
  refine m_start (cc := cX3_isSo) (by decide +kernel) rfl (Nat.le_of_ble_eq_true rfl) rfl ?_
  intro p e s m args below meth c ls H locs C hI hl
  have hx := C.1.1
  have hb := C.1.2.1
  have hown := C.1.2.2.2.1
  have hts := C.1.2.2.2.2.1
  have hE := C.2.2
  rw [fM_isSo] at hf
  refine lv_aload_n hx hb dX3_isSo_0 rfl (lv_at hl 0 rfl) ?_
  refine mg0 C hI dX3_isSo_1 ?_
  refine lv_sipush (v := 873) hx hb dX3_isSo_4 (by decide) ?_
  refine lv_iload_n hx hb dX3_isSo_7 rfl (lv_at hl 1 rfl) ?_
  refine lv_iadd hx hb dX3_isSo_8 ?_
  refine ma0 C hI hf dX3_isSo_9 (fun v1 hf => ?_)
  refine lv_aload_n hx hb dX3_isSo_10 rfl (lv_at hl 0 rfl) ?_
  refine mg0 C hI dX3_isSo_11 ?_
  refine lv_sipush (v := 857) hx hb dX3_isSo_14 (by decide) ?_
  refine lv_iload_n hx hb dX3_isSo_17 rfl (lv_at hl 1 rfl) ?_
  refine lv_iadd hx hb dX3_isSo_18 ?_
  refine ma0 C hI hf dX3_isSo_19 (fun v2 hf => ?_)
  refine b_iceq (tgt := 52) hx hb hf dX3_isSo_20 (by decide) (fun hf => ?_) (fun hf => ?_)
  · refine lv_iconst (v := 1) hx hb dX3_isSo_52 (by decide) ?_
    refine lv_goto (tgt := 57) hx hb dX3_isSo_53 (by decide) ?_
    exact m_zretc C hI zb_1 hf dX3_isSo_57
  · refine lv_aload_n hx hb dX3_isSo_23 rfl (lv_at hl 0 rfl) ?_
    refine lv_iconst (v := 0) hx hb dX3_isSo_24 (by decide) ?_
    refine lv_aload_n hx hb dX3_isSo_25 rfl (lv_at hl 0 rfl) ?_
    refine mg0 C hI dX3_isSo_26 ?_
    refine lv_sipush (v := 857) hx hb dX3_isSo_29 (by decide) ?_
    refine lv_iload_n hx hb dX3_isSo_32 rfl (lv_at hl 1 rfl) ?_
    refine lv_iadd hx hb dX3_isSo_33 ?_
    refine ma0 C hI hf dX3_isSo_34 (fun v3 hf => ?_)
    refine lv_aload_n hx hb dX3_isSo_35 rfl (lv_at hl 0 rfl) ?_
    refine mg0 C hI dX3_isSo_36 ?_
    refine lv_sipush (v := 873) hx hb dX3_isSo_39 (by decide) ?_
    refine lv_iload_n hx hb dX3_isSo_42 rfl (lv_at hl 1 rfl) ?_
    refine lv_iadd hx hb dX3_isSo_43 ?_
    refine ma0 C hI hf dX3_isSo_44 (fun v4 hf => ?_)
    refine m_calli (rest := []) C hI hf (mm_comesTo l N _ _ _ _) rfl cqM_comesTo ⟨rfl, rfl⟩ ⟨Nat.le_of_ble_eq_true rfl, Nat.le_of_ble_eq_true rfl⟩ rfl hl.1 rfl (Nat.le_of_ble_eq_true rfl) dX3_isSo_45 (fun v6 x5 H locs hI hf => ?_)
    refine lv_iconst (v := 1) hx hb dX3_isSo_48 (by decide) ?_
    refine b_icne (tgt := 56) hx hb hf dX3_isSo_49 (by decide) (fun hf => ?_) (fun hf => ?_)
    · refine lv_iconst (v := 0) hx hb dX3_isSo_56 (by decide) ?_
      exact m_zretc C hI zb_0 hf dX3_isSo_57
    · refine lv_iconst (v := 1) hx hb dX3_isSo_52 (by decide) ?_
      refine lv_goto (tgt := 57) hx hb dX3_isSo_53 (by decide) ?_
      exact m_zretc C hI zb_1 hf dX3_isSo_57
/-! isBridged(I)Z -/
abbrev rmM_isBridged : Room := { frames := 0, cells := 0, slots := 0, locals := 0 }
def fM_isBridged (N : Nat) (x : MS) (l1 : Int32) : Option (Int32 × MS) :=
  (rd 1725 (gA x 0) (64 + l1)).bind fun v1 =>
  lt (if v1 = 1 then 1 else 0 : Int32) fun v2 =>
  some (zb v2, x)
theorem mm_isBridged (l : Launch) (N : Nat) {w : mO} {A : Nat → Prop} : ∀ (x : MS) (l1 : Int32) (r : Int32) (xr : MS), fM_isBridged N x l1 = some (r, xr) → mMet l yX3_isBridged (ws_ yX3_isBridged cX3_isBridged 2 (some .boolean)) rmM_isBridged [.ref (w.2.2.1 28), .int l1] w A x (some (.int r)) xr := by
  intro x l1 r xr hf
  refine m_start (cc := cX3_isBridged) (by decide +kernel) rfl (Nat.le_of_ble_eq_true rfl) rfl ?_
  intro p e s m args below meth c ls H locs C hI hl
  have hx := C.1.1
  have hb := C.1.2.1
  have hown := C.1.2.2.2.1
  have hts := C.1.2.2.2.2.1
  have hE := C.2.2
  rw [fM_isBridged] at hf
  refine lv_aload_n hx hb dX3_isBridged_0 rfl (lv_at hl 0 rfl) ?_
  refine mg0 C hI dX3_isBridged_1 ?_
  refine lv_bipush (v := 64) hx hb dX3_isBridged_4 (by decide) ?_
  refine lv_iload_n hx hb dX3_isBridged_6 rfl (lv_at hl 1 rfl) ?_
  refine lv_iadd hx hb dX3_isBridged_7 ?_
  refine ma0 C hI hf dX3_isBridged_8 (fun v1 hf => ?_)
  refine lv_iconst (v := 1) hx hb dX3_isBridged_9 (by decide) ?_
  suffices hJ : ∀ v2 : Int32, (v2 = (if v1 = 1 then 1 else 0 : Int32)) → W p l e rmM_isBridged s m args below meth c H locs 0 0 (MQ below (mQ w A (some (.int r)) xr) args s 0 0 A) (F0 m 18 ls [.int v2]) by
    refine lv_icmp_ne (tgt := 17) hx hb dX3_isBridged_10 (by decide) (fun hc => ?_) (fun hc => ?_)
    · refine lv_iconst (v := 0) hx hb dX3_isBridged_17 (by decide) ?_
      exact hJ _ (if_neg hc).symm
    · refine lv_iconst (v := 1) hx hb dX3_isBridged_13 (by decide) ?_
      refine lv_goto (tgt := 18) hx hb dX3_isBridged_14 (by decide) ?_
      exact hJ _ (if_pos hc).symm
  intro v2 hv
  have hf := lt_of hv hf
  exact m_zret C hI hf dX3_isBridged_18
/-! bridgedOnes()I -/
abbrev rmM_bridgedOnes : Room := { frames := 1, cells := 0, slots := 0, locals := 21 }
def fM_bridgedOnes_b4 (N : Nat) : Nat → MS → Int32 → Int32 → Option (Int32 × MS)
  | 0, _, _, _ => none
  | n + 1, x, l1, l2 =>
  if (gA x 0 88) ≤ l2 then
    some (l1, x)
  else
    b2 (fM_isBridged N x l2) fun v2 x1 =>
    lt (if v2 = 0 then 0 else 1 <<< (l2 &&& 31) : Int32) fun v3 =>
    fM_bridgedOnes_b4 N n x1 (l1 ||| v3) (l2 + 1)
theorem w_fM_bridgedOnes_b4 {N : Nat} {r : Int32} {xr : MS} (C : mC w A p s m args meth c cX3_bridgedOnes 3 (some .int)) : ∀ (n : Nat) (x : MS) (l1 : Int32) (l2 : Int32) (H : Heap) (locs : List Loc) (ls : Array Slot), mI w A x s.heap H locs → lv_has ls 3 [(0, .ref (w.2.2.1 28)), (1, .int l1), (2, .int l2)] → fM_bridgedOnes_b4 N n x l1 l2 = some (r, xr) → W p l e rmM_bridgedOnes s m args below meth c H locs 0 0 (MQ below (mQ w A (some (.int r)) xr) args s 0 0 A) (F0 m 4 ls []) := by
  have hx := C.1.1
  have hb := C.1.2.1
  have hown := C.1.2.2.2.1
  have hts := C.1.2.2.2.2.1
  have hE := C.2.2
  intro n
  induction n with
  | zero => intro x l1 l2 H locs ls hI hl hf; rw [fM_bridgedOnes_b4] at hf; cases hf
  | succ n ih =>
  intro x l1 l2 H locs ls hI hl hf
  rw [fM_bridgedOnes_b4] at hf
  refine lv_iload_n hx hb dX3_bridgedOnes_4 rfl (lv_at hl 2 rfl) ?_
  refine lv_aload_n hx hb dX3_bridgedOnes_5 rfl (lv_at hl 0 rfl) ?_
  refine mg0 C hI dX3_bridgedOnes_6 ?_
  refine lv_bipush (v := 88) hx hb dX3_bridgedOnes_9 (by decide) ?_
  refine mac0 C hI rc1725_88 dX3_bridgedOnes_11 ?_
  refine b_icge (tgt := 39) hx hb hf dX3_bridgedOnes_12 (by decide) (fun hf => ?_) (fun hf => ?_)
  · refine lv_iload_n hx hb dX3_bridgedOnes_39 rfl (lv_at hl 1 rfl) ?_
    exact m_iret C hI hf dX3_bridgedOnes_40
  · refine lv_iload_n hx hb dX3_bridgedOnes_15 rfl (lv_at hl 1 rfl) ?_
    refine lv_aload_n hx hb dX3_bridgedOnes_16 rfl (lv_at hl 0 rfl) ?_
    refine lv_iload_n hx hb dX3_bridgedOnes_17 rfl (lv_at hl 2 rfl) ?_
    refine m_calli (rest := [.int l1]) C hI hf (mm_isBridged l N _ _) rfl cqM_isBridged ⟨rfl, rfl⟩ ⟨Nat.le_of_ble_eq_true rfl, Nat.le_of_ble_eq_true rfl⟩ rfl hl.1 rfl (Nat.le_of_ble_eq_true rfl) dX3_bridgedOnes_18 (fun v2 x1 H locs hI hf => ?_)
    suffices hJ : ∀ v3 : Int32, (v3 = (if v2 = 0 then 0 else 1 <<< (l2 &&& 31) : Int32)) → W p l e rmM_bridgedOnes s m args below meth c H locs 0 0 (MQ below (mQ w A (some (.int r)) xr) args s 0 0 A) (F0 m 31 ls [.int v3, .int l1]) by
      refine lv_if_eq (tgt := 30) hx hb dX3_bridgedOnes_21 (by decide) (fun hc => ?_) (fun hc => ?_)
      · refine lv_iconst (v := 0) hx hb dX3_bridgedOnes_30 (by decide) ?_
        exact hJ _ (if_pos hc).symm
      · refine lv_iconst (v := 1) hx hb dX3_bridgedOnes_24 (by decide) ?_
        refine lv_iload_n hx hb dX3_bridgedOnes_25 rfl (lv_at hl 2 rfl) ?_
        refine lv_ishl hx hb dX3_bridgedOnes_26 ?_
        refine lv_goto (tgt := 31) hx hb dX3_bridgedOnes_27 (by decide) ?_
        exact hJ _ (if_neg hc).symm
    intro v3 hv
    have hf := lt_of hv hf
    refine lv_ior hx hb dX3_bridgedOnes_31 ?_
    refine lv_istore_n (lv' := [(1, .int (l1 ||| v3)), (0, .ref (w.2.2.1 28)), (2, .int l2)]) hx hb dX3_bridgedOnes_32 rfl hl (by decide) rfl (fun ls hl => ?_)
    refine lv_iinc (v := l2 + 1) (lv' := [(2, .int (l2 + 1)), (1, .int (l1 ||| v3)), (0, .ref (w.2.2.1 28))]) hx hb dX3_bridgedOnes_33 hl (k := 2) rfl rfl (by decide) rfl (fun ls hl => ?_)
    refine lv_goto (tgt := 4) hx hb dX3_bridgedOnes_36 (by decide) ?_
    exact ih x1 (l1 ||| v3) (l2 + 1) _ _ _ hI (lv_sub hl [2, 1, 0] rfl) hf
def fM_bridgedOnes (N : Nat) (x : MS) : Option (Int32 × MS) :=
  fM_bridgedOnes_b4 N N x 0 0
theorem mm_bridgedOnes (l : Launch) (N : Nat) {w : mO} {A : Nat → Prop} : ∀ (x : MS) (r : Int32) (xr : MS), fM_bridgedOnes N x  = some (r, xr) → mMet l yX3_bridgedOnes (ws_ yX3_bridgedOnes cX3_bridgedOnes 3 (some .int)) rmM_bridgedOnes [.ref (w.2.2.1 28)] w A x (some (.int r)) xr := by
  intro x  r xr hf
  refine m_start (cc := cX3_bridgedOnes) (by decide +kernel) rfl (Nat.le_of_ble_eq_true rfl) rfl ?_
  intro p e s m args below meth c ls H locs C hI hl
  have hx := C.1.1
  have hb := C.1.2.1
  have hown := C.1.2.2.2.1
  have hts := C.1.2.2.2.2.1
  have hE := C.2.2
  rw [fM_bridgedOnes] at hf
  refine lv_iconst (v := 0) hx hb dX3_bridgedOnes_0 (by decide) ?_
  refine lv_istore_n (lv' := [(1, .int 0), (0, .ref (w.2.2.1 28))]) hx hb dX3_bridgedOnes_1 rfl hl (by decide) rfl (fun ls hl => ?_)
  refine lv_iconst (v := 0) hx hb dX3_bridgedOnes_2 (by decide) ?_
  refine lv_istore_n (lv' := [(2, .int 0), (1, .int 0), (0, .ref (w.2.2.1 28))]) hx hb dX3_bridgedOnes_3 rfl hl (by decide) rfl (fun ls hl => ?_)
  exact w_fM_bridgedOnes_b4 C N x 0 0 _ _ _ hI (lv_sub hl [2, 1, 0] rfl) hf
/-! endOf(II)I -/
abbrev rmM_endOf : Room := { frames := 1, cells := 0, slots := 0, locals := 21 }
def fM_endOf_b31 (N : Nat) (x : MS) (l3 : Int32) : Option (Int32 × MS) :=
  (fM_lesser N l3 ((gA x 0 88) - 1)).bind fun v1 =>
  some (v1, x)
theorem w_fM_endOf_b31 {N : Nat} {r : Int32} {xr : MS} (C : mC w A p s m args meth c cX3_endOf 4 (some .int)) : ∀ (x : MS) (l3 : Int32) (H : Heap) (locs : List Loc) (ls : Array Slot), mI w A x s.heap H locs → lv_has ls 4 [(0, .ref (w.2.2.1 28)), (3, .int l3)] → fM_endOf_b31 N x l3 = some (r, xr) → W p l e rmM_endOf s m args below meth c H locs 0 0 (MQ below (mQ w A (some (.int r)) xr) args s 0 0 A) (F0 m 31 ls []) := by
  have hx := C.1.1
  have hb := C.1.2.1
  have hown := C.1.2.2.2.1
  have hts := C.1.2.2.2.2.1
  have hE := C.2.2
  intro x l3 H locs ls hI hl hf
  rw [fM_endOf_b31] at hf
  refine lv_iload_n hx hb dX3_endOf_31 rfl (lv_at hl 1 rfl) ?_
  refine lv_aload_n hx hb dX3_endOf_32 rfl (lv_at hl 0 rfl) ?_
  refine mg0 C hI dX3_endOf_33 ?_
  refine lv_bipush (v := 88) hx hb dX3_endOf_36 (by decide) ?_
  refine mac0 C hI rc1725_88 dX3_endOf_38 ?_
  refine lv_iconst (v := 1) hx hb dX3_endOf_39 (by decide) ?_
  refine lv_isub hx hb dX3_endOf_40 ?_
  refine g_calliS (rest := []) C.1 hf (smM_lesser l N _ _) cqM_M_lesser ⟨rfl, rfl⟩ ⟨Nat.le_of_ble_eq_true rfl, Nat.le_of_ble_eq_true rfl⟩ rfl hl.1 rfl (Nat.le_of_ble_eq_true rfl) ⟨Nat.zero_le _, Nat.zero_le _⟩ dX3_endOf_41 (fun v1 hf => ?_)
  exact m_iret C hI hf dX3_endOf_44
def fM_endOf_b4 (N : Nat) : Nat → MS → Int32 → Int32 → Option (Int32 × MS)
  | 0, _, _, _ => none
  | n + 1, x, l2, l3 =>
  if ((gA x 0 88) - 1) ≤ l3 then
    fM_endOf_b31 N x l3
  else
    if ((l2 >>> (l3 &&& 31)) &&& 1) = 0 then
      fM_endOf_b4 N n x l2 (l3 + 1)
    else
      fM_endOf_b31 N x l3
theorem w_fM_endOf_b4 {N : Nat} {r : Int32} {xr : MS} (C : mC w A p s m args meth c cX3_endOf 4 (some .int)) : ∀ (n : Nat) (x : MS) (l2 : Int32) (l3 : Int32) (H : Heap) (locs : List Loc) (ls : Array Slot), mI w A x s.heap H locs → lv_has ls 4 [(0, .ref (w.2.2.1 28)), (2, .int l2), (3, .int l3)] → fM_endOf_b4 N n x l2 l3 = some (r, xr) → W p l e rmM_endOf s m args below meth c H locs 0 0 (MQ below (mQ w A (some (.int r)) xr) args s 0 0 A) (F0 m 4 ls []) := by
  have hx := C.1.1
  have hb := C.1.2.1
  have hown := C.1.2.2.2.1
  have hts := C.1.2.2.2.2.1
  have hE := C.2.2
  intro n
  induction n with
  | zero => intro x l2 l3 H locs ls hI hl hf; rw [fM_endOf_b4] at hf; cases hf
  | succ n ih =>
  intro x l2 l3 H locs ls hI hl hf
  rw [fM_endOf_b4] at hf
  refine lv_iload_n hx hb dX3_endOf_4 rfl (lv_at hl 2 rfl) ?_
  refine lv_aload_n hx hb dX3_endOf_5 rfl (lv_at hl 0 rfl) ?_
  refine mg0 C hI dX3_endOf_6 ?_
  refine lv_bipush (v := 88) hx hb dX3_endOf_9 (by decide) ?_
  refine mac0 C hI rc1725_88 dX3_endOf_11 ?_
  refine lv_iconst (v := 1) hx hb dX3_endOf_12 (by decide) ?_
  refine lv_isub hx hb dX3_endOf_13 ?_
  refine b_icge (tgt := 31) hx hb hf dX3_endOf_14 (by decide) (fun hf => ?_) (fun hf => ?_)
  · exact w_fM_endOf_b31 C x l3 _ _ _ hI (lv_sub hl [0, 2] rfl) hf
  · refine lv_iload_n hx hb dX3_endOf_17 rfl (lv_at hl 1 rfl) ?_
    refine lv_iload_n hx hb dX3_endOf_18 rfl (lv_at hl 2 rfl) ?_
    refine lv_ishr hx hb dX3_endOf_19 ?_
    refine lv_iconst (v := 1) hx hb dX3_endOf_20 (by decide) ?_
    refine lv_iand hx hb dX3_endOf_21 ?_
    refine b_ifne (tgt := 31) hx hb hf dX3_endOf_22 (by decide) (fun hf => ?_) (fun hf => ?_)
    · exact w_fM_endOf_b31 C x l3 _ _ _ hI (lv_sub hl [0, 2] rfl) hf
    · refine lv_iinc (v := l3 + 1) (lv' := [(3, .int (l3 + 1)), (0, .ref (w.2.2.1 28)), (2, .int l2)]) hx hb dX3_endOf_25 hl (k := 2) rfl rfl (by decide) rfl (fun ls hl => ?_)
      refine lv_goto (tgt := 4) hx hb dX3_endOf_28 (by decide) ?_
      exact ih x l2 (l3 + 1) _ _ _ hI (lv_sub hl [1, 2, 0] rfl) hf
def fM_endOf (N : Nat) (x : MS) (l1 : Int32) (l2 : Int32) : Option (Int32 × MS) :=
  fM_endOf_b4 N N x l2 (l1 + 1)
theorem mm_endOf (l : Launch) (N : Nat) {w : mO} {A : Nat → Prop} : ∀ (x : MS) (l1 : Int32) (l2 : Int32) (r : Int32) (xr : MS), fM_endOf N x l1 l2 = some (r, xr) → mMet l yX3_endOf (ws_ yX3_endOf cX3_endOf 4 (some .int)) rmM_endOf [.ref (w.2.2.1 28), .int l1, .int l2] w A x (some (.int r)) xr := by
  intro x l1 l2 r xr hf
  refine m_start (cc := cX3_endOf) (by decide +kernel) rfl (Nat.le_of_ble_eq_true rfl) rfl ?_
  intro p e s m args below meth c ls H locs C hI hl
  have hx := C.1.1
  have hb := C.1.2.1
  have hown := C.1.2.2.2.1
  have hts := C.1.2.2.2.2.1
  have hE := C.2.2
  rw [fM_endOf] at hf
  refine lv_iload_n hx hb dX3_endOf_0 rfl (lv_at hl 1 rfl) ?_
  refine lv_iconst (v := 1) hx hb dX3_endOf_1 (by decide) ?_
  refine lv_iadd hx hb dX3_endOf_2 ?_
  refine lv_istore_n (lv' := [(3, .int (l1 + 1)), (0, .ref (w.2.2.1 28)), (1, .int l1), (2, .int l2)]) hx hb dX3_endOf_3 rfl hl (by decide) rfl (fun ls hl => ?_)
  exact w_fM_endOf_b4 C N x l2 (l1 + 1) _ _ _ hI (lv_sub hl [1, 3, 0] rfl) hf
/-! isReady(I)Z -/
abbrev rmM_isReady : Room := { frames := 0, cells := 0, slots := 0, locals := 0 }
def fM_isReady (N : Nat) (x : MS) (l1 : Int32) : Option (Int32 × MS) :=
  (rd 1725 (gA x 0) (40 + l1)).bind fun v1 =>
  lt (if v1 = 1 then 1 else 0 : Int32) fun v2 =>
  some (zb v2, x)
theorem mm_isReady (l : Launch) (N : Nat) {w : mO} {A : Nat → Prop} : ∀ (x : MS) (l1 : Int32) (r : Int32) (xr : MS), fM_isReady N x l1 = some (r, xr) → mMet l yX3_isReady (ws_ yX3_isReady cX3_isReady 2 (some .boolean)) rmM_isReady [.ref (w.2.2.1 28), .int l1] w A x (some (.int r)) xr := by
  intro x l1 r xr hf
  refine m_start (cc := cX3_isReady) (by decide +kernel) rfl (Nat.le_of_ble_eq_true rfl) rfl ?_
  intro p e s m args below meth c ls H locs C hI hl
  have hx := C.1.1
  have hb := C.1.2.1
  have hown := C.1.2.2.2.1
  have hts := C.1.2.2.2.2.1
  have hE := C.2.2
  rw [fM_isReady] at hf
  refine lv_aload_n hx hb dX3_isReady_0 rfl (lv_at hl 0 rfl) ?_
  refine mg0 C hI dX3_isReady_1 ?_
  refine lv_bipush (v := 40) hx hb dX3_isReady_4 (by decide) ?_
  refine lv_iload_n hx hb dX3_isReady_6 rfl (lv_at hl 1 rfl) ?_
  refine lv_iadd hx hb dX3_isReady_7 ?_
  refine ma0 C hI hf dX3_isReady_8 (fun v1 hf => ?_)
  refine lv_iconst (v := 1) hx hb dX3_isReady_9 (by decide) ?_
  suffices hJ : ∀ v2 : Int32, (v2 = (if v1 = 1 then 1 else 0 : Int32)) → W p l e rmM_isReady s m args below meth c H locs 0 0 (MQ below (mQ w A (some (.int r)) xr) args s 0 0 A) (F0 m 18 ls [.int v2]) by
    refine lv_icmp_ne (tgt := 17) hx hb dX3_isReady_10 (by decide) (fun hc => ?_) (fun hc => ?_)
    · refine lv_iconst (v := 0) hx hb dX3_isReady_17 (by decide) ?_
      exact hJ _ (if_neg hc).symm
    · refine lv_iconst (v := 1) hx hb dX3_isReady_13 (by decide) ?_
      refine lv_goto (tgt := 18) hx hb dX3_isReady_14 (by decide) ?_
      exact hJ _ (if_pos hc).symm
  intro v2 hv
  have hf := lt_of hv hf
  exact m_zret C hI hf dX3_isReady_18
/-! lacksOf(I)I -/
abbrev rmM_lacksOf : Room := { frames := 2, cells := 0, slots := 0, locals := 44 }
def fM_lacksOf_b66 (N : Nat) : Nat → MS → Int32 → Int32 → Int32 → Option (Int32 × MS)
  | 0, _, _, _, _ => none
  | n + 1, x, l3, l4, l5 =>
  if l3 < l5 then
    some (l4, x)
  else
    b2 (fM_isReady N x l5) fun v2 x1 =>
    lt (if v2 = 0 then 1 else 0 : Int32) fun v3 =>
    fM_lacksOf_b66 N n x1 l3 (l4 + v3) (l5 + 1)
theorem w_fM_lacksOf_b66 {N : Nat} {r : Int32} {xr : MS} (C : mC w A p s m args meth c cX3_lacksOf 6 (some .int)) : ∀ (n : Nat) (x : MS) (l3 : Int32) (l4 : Int32) (l5 : Int32) (H : Heap) (locs : List Loc) (ls : Array Slot), mI w A x s.heap H locs → lv_has ls 6 [(0, .ref (w.2.2.1 28)), (3, .int l3), (4, .int l4), (5, .int l5)] → fM_lacksOf_b66 N n x l3 l4 l5 = some (r, xr) → W p l e rmM_lacksOf s m args below meth c H locs 0 0 (MQ below (mQ w A (some (.int r)) xr) args s 0 0 A) (F0 m 66 ls []) := by
  have hx := C.1.1
  have hb := C.1.2.1
  have hown := C.1.2.2.2.1
  have hts := C.1.2.2.2.2.1
  have hE := C.2.2
  intro n
  induction n with
  | zero => intro x l3 l4 l5 H locs ls hI hl hf; rw [fM_lacksOf_b66] at hf; cases hf
  | succ n ih =>
  intro x l3 l4 l5 H locs ls hI hl hf
  rw [fM_lacksOf_b66] at hf
  refine lv_iload hx hb dX3_lacksOf_66 (lv_at hl 3 rfl) ?_
  refine lv_iload_n hx hb dX3_lacksOf_68 rfl (lv_at hl 1 rfl) ?_
  refine b_icgt (tgt := 97) hx hb hf dX3_lacksOf_69 (by decide) (fun hf => ?_) (fun hf => ?_)
  · refine lv_iload hx hb dX3_lacksOf_97 (lv_at hl 2 rfl) ?_
    exact m_iret C hI hf dX3_lacksOf_99
  · refine lv_iload hx hb dX3_lacksOf_72 (lv_at hl 2 rfl) ?_
    refine lv_aload_n hx hb dX3_lacksOf_74 rfl (lv_at hl 0 rfl) ?_
    refine lv_iload hx hb dX3_lacksOf_75 (lv_at hl 3 rfl) ?_
    refine m_calli (rest := [.int l4]) C hI hf (mm_isReady l N _ _) rfl cqM_isReady ⟨rfl, rfl⟩ ⟨Nat.le_of_ble_eq_true rfl, Nat.le_of_ble_eq_true rfl⟩ rfl hl.1 rfl (Nat.le_of_ble_eq_true rfl) dX3_lacksOf_77 (fun v2 x1 H locs hI hf => ?_)
    suffices hJ : ∀ v3 : Int32, (v3 = (if v2 = 0 then 1 else 0 : Int32)) → W p l e rmM_lacksOf s m args below meth c H locs 0 0 (MQ below (mQ w A (some (.int r)) xr) args s 0 0 A) (F0 m 88 ls [.int v3, .int l4]) by
      refine lv_if_eq (tgt := 87) hx hb dX3_lacksOf_80 (by decide) (fun hc => ?_) (fun hc => ?_)
      · refine lv_iconst (v := 1) hx hb dX3_lacksOf_87 (by decide) ?_
        exact hJ _ (if_pos hc).symm
      · refine lv_iconst (v := 0) hx hb dX3_lacksOf_83 (by decide) ?_
        refine lv_goto (tgt := 88) hx hb dX3_lacksOf_84 (by decide) ?_
        exact hJ _ (if_neg hc).symm
    intro v3 hv
    have hf := lt_of hv hf
    refine lv_iadd hx hb dX3_lacksOf_88 ?_
    refine lv_istore (lv' := [(4, .int (l4 + v3)), (0, .ref (w.2.2.1 28)), (3, .int l3), (5, .int l5)]) hx hb dX3_lacksOf_89 hl (by decide) rfl (fun ls hl => ?_)
    refine lv_iinc (v := l5 + 1) (lv' := [(5, .int (l5 + 1)), (4, .int (l4 + v3)), (0, .ref (w.2.2.1 28)), (3, .int l3)]) hx hb dX3_lacksOf_91 hl (k := 3) rfl rfl (by decide) rfl (fun ls hl => ?_)
    refine lv_goto (tgt := 66) hx hb dX3_lacksOf_94 (by decide) ?_
    exact ih x1 l3 (l4 + v3) (l5 + 1) _ _ _ hI (lv_sub hl [2, 3, 1, 0] rfl) hf
def fM_lacksOf_b38 (N : Nat) (x : MS) (l1 : Int32) (l2 : Int32) : Option (Int32 × MS) :=
  b2 (fM_bridgedOnes N x) fun v2 x1 =>
  b2 (fM_endOf N x1 l1 v2) fun v4 x3 =>
  fM_lacksOf_b66 N N x3 v4 0 l2
theorem w_fM_lacksOf_b38 {N : Nat} {r : Int32} {xr : MS} (C : mC w A p s m args meth c cX3_lacksOf 6 (some .int)) : ∀ (x : MS) (l1 : Int32) (l2 : Int32) (H : Heap) (locs : List Loc) (ls : Array Slot), mI w A x s.heap H locs → lv_has ls 6 [(0, .ref (w.2.2.1 28)), (1, .int l1), (2, .int l2)] → fM_lacksOf_b38 N x l1 l2 = some (r, xr) → W p l e rmM_lacksOf s m args below meth c H locs 0 0 (MQ below (mQ w A (some (.int r)) xr) args s 0 0 A) (F0 m 38 ls []) := by
  have hx := C.1.1
  have hb := C.1.2.1
  have hown := C.1.2.2.2.1
  have hts := C.1.2.2.2.2.1
  have hE := C.2.2
  intro x l1 l2 H locs ls hI hl hf
  rw [fM_lacksOf_b38] at hf
  refine lv_aload_n hx hb dX3_lacksOf_38 rfl (lv_at hl 0 rfl) ?_
  refine lv_iload_n hx hb dX3_lacksOf_39 rfl (lv_at hl 1 rfl) ?_
  refine lv_aload_n hx hb dX3_lacksOf_40 rfl (lv_at hl 0 rfl) ?_
  refine m_calli (rest := [.int l1, .ref (w.2.2.1 28)]) C hI hf (mm_bridgedOnes l N _) rfl cqM_bridgedOnes ⟨rfl, rfl⟩ ⟨Nat.le_of_ble_eq_true rfl, Nat.le_of_ble_eq_true rfl⟩ rfl hl.1 rfl (Nat.le_of_ble_eq_true rfl) dX3_lacksOf_41 (fun v2 x1 H locs hI hf => ?_)
  refine m_calli (rest := []) C hI hf (mm_endOf l N _ _ _) rfl cqM_endOf ⟨rfl, rfl⟩ ⟨Nat.le_of_ble_eq_true rfl, Nat.le_of_ble_eq_true rfl⟩ rfl hl.1 rfl (Nat.le_of_ble_eq_true rfl) dX3_lacksOf_44 (fun v4 x3 H locs hI hf => ?_)
  refine lv_goto (tgt := 59) hx hb dX3_lacksOf_47 (by decide) ?_
  refine lv_istore_n (lv' := [(3, .int v4), (0, .ref (w.2.2.1 28)), (1, .int l1), (2, .int l2)]) hx hb dX3_lacksOf_59 rfl hl (by decide) rfl (fun ls hl => ?_)
  refine lv_iconst (v := 0) hx hb dX3_lacksOf_60 (by decide) ?_
  refine lv_istore (lv' := [(4, .int 0), (3, .int v4), (0, .ref (w.2.2.1 28)), (1, .int l1), (2, .int l2)]) hx hb dX3_lacksOf_61 hl (by decide) rfl (fun ls hl => ?_)
  refine lv_iload_n hx hb dX3_lacksOf_63 rfl (lv_at hl 4 rfl) ?_
  refine lv_istore (lv' := [(5, .int l2), (4, .int 0), (3, .int v4), (0, .ref (w.2.2.1 28)), (1, .int l1), (2, .int l2)]) hx hb dX3_lacksOf_64 hl (by decide) rfl (fun ls hl => ?_)
  exact w_fM_lacksOf_b66 C N x3 v4 0 l2 _ _ _ hI (lv_sub hl [3, 2, 1, 0] rfl) hf
def fM_lacksOf_b26 (N : Nat) (x : MS) (l1 : Int32) (l2 : Int32) : Option (Int32 × MS) :=
  b2 (fM_isBridged N x l1) fun v2 x1 =>
  if v2 = 0 then
    if l1 = 0 then
      fM_lacksOf_b38 N x1 l1 l2
    else
      b2 (fM_bridgedOnes N x1) fun v4 x3 =>
      b2 (fM_endOf N x3 l2 v4) fun v6 x5 =>
      fM_lacksOf_b66 N N x5 v6 0 l2
  else
    fM_lacksOf_b38 N x1 l1 l2
theorem w_fM_lacksOf_b26 {N : Nat} {r : Int32} {xr : MS} (C : mC w A p s m args meth c cX3_lacksOf 6 (some .int)) : ∀ (x : MS) (l1 : Int32) (l2 : Int32) (H : Heap) (locs : List Loc) (ls : Array Slot), mI w A x s.heap H locs → lv_has ls 6 [(0, .ref (w.2.2.1 28)), (1, .int l1), (2, .int l2)] → fM_lacksOf_b26 N x l1 l2 = some (r, xr) → W p l e rmM_lacksOf s m args below meth c H locs 0 0 (MQ below (mQ w A (some (.int r)) xr) args s 0 0 A) (F0 m 26 ls []) := by
  have hx := C.1.1
  have hb := C.1.2.1
  have hown := C.1.2.2.2.1
  have hts := C.1.2.2.2.2.1
  have hE := C.2.2
  intro x l1 l2 H locs ls hI hl hf
  rw [fM_lacksOf_b26] at hf
  refine lv_aload_n hx hb dX3_lacksOf_26 rfl (lv_at hl 0 rfl) ?_
  refine lv_iload_n hx hb dX3_lacksOf_27 rfl (lv_at hl 1 rfl) ?_
  refine m_calli (rest := []) C hI hf (mm_isBridged l N _ _) rfl cqM_isBridged ⟨rfl, rfl⟩ ⟨Nat.le_of_ble_eq_true rfl, Nat.le_of_ble_eq_true rfl⟩ rfl hl.1 rfl (Nat.le_of_ble_eq_true rfl) dX3_lacksOf_28 (fun v2 x1 H locs hI hf => ?_)
  refine b_ifne (tgt := 38) hx hb hf dX3_lacksOf_31 (by decide) (fun hf => ?_) (fun hf => ?_)
  · exact w_fM_lacksOf_b38 C x1 l1 l2 _ _ _ hI (lv_sub hl [0, 1, 2] rfl) hf
  · refine lv_iload_n hx hb dX3_lacksOf_34 rfl (lv_at hl 1 rfl) ?_
    refine b_ifne (tgt := 50) hx hb hf dX3_lacksOf_35 (by decide) (fun hf => ?_) (fun hf => ?_)
    · refine lv_aload_n hx hb dX3_lacksOf_50 rfl (lv_at hl 0 rfl) ?_
      refine lv_iload_n hx hb dX3_lacksOf_51 rfl (lv_at hl 2 rfl) ?_
      refine lv_aload_n hx hb dX3_lacksOf_52 rfl (lv_at hl 0 rfl) ?_
      refine m_calli (rest := [.int l2, .ref (w.2.2.1 28)]) C hI hf (mm_bridgedOnes l N _) rfl cqM_bridgedOnes ⟨rfl, rfl⟩ ⟨Nat.le_of_ble_eq_true rfl, Nat.le_of_ble_eq_true rfl⟩ rfl hl.1 rfl (Nat.le_of_ble_eq_true rfl) dX3_lacksOf_53 (fun v4 x3 H locs hI hf => ?_)
      refine m_calli (rest := []) C hI hf (mm_endOf l N _ _ _) rfl cqM_endOf ⟨rfl, rfl⟩ ⟨Nat.le_of_ble_eq_true rfl, Nat.le_of_ble_eq_true rfl⟩ rfl hl.1 rfl (Nat.le_of_ble_eq_true rfl) dX3_lacksOf_56 (fun v6 x5 H locs hI hf => ?_)
      refine lv_istore_n (lv' := [(3, .int v6), (0, .ref (w.2.2.1 28)), (1, .int l1), (2, .int l2)]) hx hb dX3_lacksOf_59 rfl hl (by decide) rfl (fun ls hl => ?_)
      refine lv_iconst (v := 0) hx hb dX3_lacksOf_60 (by decide) ?_
      refine lv_istore (lv' := [(4, .int 0), (3, .int v6), (0, .ref (w.2.2.1 28)), (1, .int l1), (2, .int l2)]) hx hb dX3_lacksOf_61 hl (by decide) rfl (fun ls hl => ?_)
      refine lv_iload_n hx hb dX3_lacksOf_63 rfl (lv_at hl 4 rfl) ?_
      refine lv_istore (lv' := [(5, .int l2), (4, .int 0), (3, .int v6), (0, .ref (w.2.2.1 28)), (1, .int l1), (2, .int l2)]) hx hb dX3_lacksOf_64 hl (by decide) rfl (fun ls hl => ?_)
      exact w_fM_lacksOf_b66 C N x5 v6 0 l2 _ _ _ hI (lv_sub hl [3, 2, 1, 0] rfl) hf
    · exact w_fM_lacksOf_b38 C x1 l1 l2 _ _ _ hI (lv_sub hl [0, 1, 2] rfl) hf
def fM_lacksOf_b8 (N : Nat) : Nat → MS → Int32 → Int32 → Option (Int32 × MS)
  | 0, _, _, _ => none
  | n + 1, x, l1, l2 =>
  if l2 ≤ 0 then
    fM_lacksOf_b26 N x l1 l2
  else
    b2 (fM_isBridged N x l2) fun v2 x1 =>
    if v2 = 0 then
      fM_lacksOf_b8 N n x1 l1 (l2 + (-1))
    else
      fM_lacksOf_b26 N x1 l1 l2
theorem w_fM_lacksOf_b8 {N : Nat} {r : Int32} {xr : MS} (C : mC w A p s m args meth c cX3_lacksOf 6 (some .int)) : ∀ (n : Nat) (x : MS) (l1 : Int32) (l2 : Int32) (H : Heap) (locs : List Loc) (ls : Array Slot), mI w A x s.heap H locs → lv_has ls 6 [(0, .ref (w.2.2.1 28)), (1, .int l1), (2, .int l2)] → fM_lacksOf_b8 N n x l1 l2 = some (r, xr) → W p l e rmM_lacksOf s m args below meth c H locs 0 0 (MQ below (mQ w A (some (.int r)) xr) args s 0 0 A) (F0 m 8 ls []) := by
  have hx := C.1.1
  have hb := C.1.2.1
  have hown := C.1.2.2.2.1
  have hts := C.1.2.2.2.2.1
  have hE := C.2.2
  intro n
  induction n with
  | zero => intro x l1 l2 H locs ls hI hl hf; rw [fM_lacksOf_b8] at hf; cases hf
  | succ n ih =>
  intro x l1 l2 H locs ls hI hl hf
  rw [fM_lacksOf_b8] at hf
  refine lv_iload_n hx hb dX3_lacksOf_8 rfl (lv_at hl 2 rfl) ?_
  refine b_ifle (tgt := 26) hx hb hf dX3_lacksOf_9 (by decide) (fun hf => ?_) (fun hf => ?_)
  · exact w_fM_lacksOf_b26 C x l1 l2 _ _ _ hI (lv_sub hl [0, 1, 2] rfl) hf
  · refine lv_aload_n hx hb dX3_lacksOf_12 rfl (lv_at hl 0 rfl) ?_
    refine lv_iload_n hx hb dX3_lacksOf_13 rfl (lv_at hl 2 rfl) ?_
    refine m_calli (rest := []) C hI hf (mm_isBridged l N _ _) rfl cqM_isBridged ⟨rfl, rfl⟩ ⟨Nat.le_of_ble_eq_true rfl, Nat.le_of_ble_eq_true rfl⟩ rfl hl.1 rfl (Nat.le_of_ble_eq_true rfl) dX3_lacksOf_14 (fun v2 x1 H locs hI hf => ?_)
    refine b_ifne (tgt := 26) hx hb hf dX3_lacksOf_17 (by decide) (fun hf => ?_) (fun hf => ?_)
    · exact w_fM_lacksOf_b26 C x1 l1 l2 _ _ _ hI (lv_sub hl [0, 1, 2] rfl) hf
    · refine lv_iinc (v := l2 + (-1)) (lv' := [(2, .int (l2 + (-1))), (0, .ref (w.2.2.1 28)), (1, .int l1)]) hx hb dX3_lacksOf_20 hl (k := 2) rfl rfl (by decide) rfl (fun ls hl => ?_)
      refine lv_goto (tgt := 8) hx hb dX3_lacksOf_23 (by decide) ?_
      exact ih x1 l1 (l2 + (-1)) _ _ _ hI (lv_sub hl [1, 2, 0] rfl) hf
def fM_lacksOf (N : Nat) (x : MS) (l1 : Int32) : Option (Int32 × MS) :=
  (fM_greater N 0 (l1 - 1)).bind fun v1 =>
  fM_lacksOf_b8 N N x l1 v1
theorem mm_lacksOf (l : Launch) (N : Nat) {w : mO} {A : Nat → Prop} : ∀ (x : MS) (l1 : Int32) (r : Int32) (xr : MS), fM_lacksOf N x l1 = some (r, xr) → mMet l yX3_lacksOf (ws_ yX3_lacksOf cX3_lacksOf 6 (some .int)) rmM_lacksOf [.ref (w.2.2.1 28), .int l1] w A x (some (.int r)) xr := by
  intro x l1 r xr hf
  refine m_start (cc := cX3_lacksOf) (by decide +kernel) rfl (Nat.le_of_ble_eq_true rfl) rfl ?_
  intro p e s m args below meth c ls H locs C hI hl
  have hx := C.1.1
  have hb := C.1.2.1
  have hown := C.1.2.2.2.1
  have hts := C.1.2.2.2.2.1
  have hE := C.2.2
  rw [fM_lacksOf] at hf
  refine lv_iconst (v := 0) hx hb dX3_lacksOf_0 (by decide) ?_
  refine lv_iload_n hx hb dX3_lacksOf_1 rfl (lv_at hl 1 rfl) ?_
  refine lv_iconst (v := 1) hx hb dX3_lacksOf_2 (by decide) ?_
  refine lv_isub hx hb dX3_lacksOf_3 ?_
  refine g_calliS (rest := []) C.1 hf (smM_greater l N _ _) cqM_M_greater ⟨rfl, rfl⟩ ⟨Nat.le_of_ble_eq_true rfl, Nat.le_of_ble_eq_true rfl⟩ rfl hl.1 rfl (Nat.le_of_ble_eq_true rfl) ⟨Nat.zero_le _, Nat.zero_le _⟩ dX3_lacksOf_4 (fun v1 hf => ?_)
  refine lv_istore_n (lv' := [(2, .int v1), (0, .ref (w.2.2.1 28)), (1, .int l1)]) hx hb dX3_lacksOf_7 rfl hl (by decide) rfl (fun ls hl => ?_)
  exact w_fM_lacksOf_b8 C N x l1 v1 _ _ _ hI (lv_sub hl [1, 2, 0] rfl) hf
/-! says(IIII)I -/
abbrev rmM_says : Room := { frames := 3, cells := 0, slots := 0, locals := 70 }
def fM_says_b124 (N : Nat) : Nat → MS → Int32 → Int32 → Int32 → Int32 → Option (Int32 × MS)
  | 0, _, _, _, _, _ => none
  | n + 1, x, l1, l3, l4, l5 =>
  if (gA x 0 89) ≤ l5 then
    (fM_held N l3 0 l4).bind fun v1 =>
    some (v1, x)
  else
    (rd 1725 (gA x 0) (889 + l5)).bind fun v2 =>
    if v2 = l1 then
      b2 (fM_isSo N x l5) fun v4 x3 =>
      if v4 = 0 then
        fM_says_b124 N n x3 l1 l3 l4 (l5 + 1)
      else
        (rd 1725 (gA x3 0) (841 + l5)).bind fun v5 =>
        (rd 1725 (gA x3 0) (857 + l5)).bind fun v6 =>
        b2 (fM_comesTo N x3 0 v5 v6) fun v8 x7 =>
        (fM_held N v8 0 l4).bind fun v9 =>
        some (v9, x7)
    else
      fM_says_b124 N n x l1 l3 l4 (l5 + 1)
theorem w_fM_says_b124 {N : Nat} {r : Int32} {xr : MS} (C : mC w A p s m args meth c cX3_says 6 (some .int)) : ∀ (n : Nat) (x : MS) (l1 : Int32) (l3 : Int32) (l4 : Int32) (l5 : Int32) (H : Heap) (locs : List Loc) (ls : Array Slot), mI w A x s.heap H locs → lv_has ls 6 [(0, .ref (w.2.2.1 28)), (1, .int l1), (3, .int l3), (4, .int l4), (5, .int l5)] → fM_says_b124 N n x l1 l3 l4 l5 = some (r, xr) → W p l e rmM_says s m args below meth c H locs 0 0 (MQ below (mQ w A (some (.int r)) xr) args s 0 0 A) (F0 m 124 ls []) := by
  have hx := C.1.1
  have hb := C.1.2.1
  have hown := C.1.2.2.2.1
  have hts := C.1.2.2.2.2.1
  have hE := C.2.2
  intro n
  induction n with
  | zero => intro x l1 l3 l4 l5 H locs ls hI hl hf; rw [fM_says_b124] at hf; cases hf
  | succ n ih =>
  intro x l1 l3 l4 l5 H locs ls hI hl hf
  rw [fM_says_b124] at hf
  refine lv_iload hx hb dX3_says_124 (lv_at hl 4 rfl) ?_
  refine lv_aload_n hx hb dX3_says_126 rfl (lv_at hl 0 rfl) ?_
  refine mg0 C hI dX3_says_127 ?_
  refine lv_bipush (v := 89) hx hb dX3_says_130 (by decide) ?_
  refine mac0 C hI rc1725_89 dX3_says_132 ?_
  refine b_icge (tgt := 200) hx hb hf dX3_says_133 (by decide) (fun hf => ?_) (fun hf => ?_)
  · refine lv_iload_n hx hb dX3_says_200 rfl (lv_at hl 2 rfl) ?_
    refine lv_iconst (v := 0) hx hb dX3_says_201 (by decide) ?_
    refine lv_iload hx hb dX3_says_202 (lv_at hl 3 rfl) ?_
    refine g_calliS (rest := []) C.1 hf (smM_held l N _ _ _) cqM_M_held ⟨rfl, rfl⟩ ⟨Nat.le_of_ble_eq_true rfl, Nat.le_of_ble_eq_true rfl⟩ rfl hl.1 rfl (Nat.le_of_ble_eq_true rfl) ⟨Nat.zero_le _, Nat.zero_le _⟩ dX3_says_204 (fun v1 hf => ?_)
    exact m_iret C hI hf dX3_says_207
  · refine lv_aload_n hx hb dX3_says_136 rfl (lv_at hl 0 rfl) ?_
    refine mg0 C hI dX3_says_137 ?_
    refine lv_sipush (v := 889) hx hb dX3_says_140 (by decide) ?_
    refine lv_iload hx hb dX3_says_143 (lv_at hl 4 rfl) ?_
    refine lv_iadd hx hb dX3_says_145 ?_
    refine ma0 C hI hf dX3_says_146 (fun v2 hf => ?_)
    refine lv_iload_n hx hb dX3_says_147 rfl (lv_at hl 1 rfl) ?_
    refine b_icne (tgt := 194) hx hb hf dX3_says_148 (by decide) (fun hf => ?_) (fun hf => ?_)
    · refine lv_iinc (v := l5 + 1) (lv' := [(5, .int (l5 + 1)), (0, .ref (w.2.2.1 28)), (1, .int l1), (3, .int l3), (4, .int l4)]) hx hb dX3_says_194 hl (k := 4) rfl rfl (by decide) rfl (fun ls hl => ?_)
      refine lv_goto (tgt := 124) hx hb dX3_says_197 (by decide) ?_
      exact ih x l1 l3 l4 (l5 + 1) _ _ _ hI (lv_sub hl [1, 2, 3, 4, 0] rfl) hf
    · refine lv_aload_n hx hb dX3_says_151 rfl (lv_at hl 0 rfl) ?_
      refine lv_iload hx hb dX3_says_152 (lv_at hl 4 rfl) ?_
      refine m_calli (rest := []) C hI hf (mm_isSo l N _ _) rfl cqM_isSo ⟨rfl, rfl⟩ ⟨Nat.le_of_ble_eq_true rfl, Nat.le_of_ble_eq_true rfl⟩ rfl hl.1 rfl (Nat.le_of_ble_eq_true rfl) dX3_says_154 (fun v4 x3 H locs hI hf => ?_)
      refine b_ifeq (tgt := 194) hx hb hf dX3_says_157 (by decide) (fun hf => ?_) (fun hf => ?_)
      · refine lv_iinc (v := l5 + 1) (lv' := [(5, .int (l5 + 1)), (0, .ref (w.2.2.1 28)), (1, .int l1), (3, .int l3), (4, .int l4)]) hx hb dX3_says_194 hl (k := 4) rfl rfl (by decide) rfl (fun ls hl => ?_)
        refine lv_goto (tgt := 124) hx hb dX3_says_197 (by decide) ?_
        exact ih x3 l1 l3 l4 (l5 + 1) _ _ _ hI (lv_sub hl [1, 2, 3, 4, 0] rfl) hf
      · refine lv_aload_n hx hb dX3_says_160 rfl (lv_at hl 0 rfl) ?_
        refine lv_iconst (v := 0) hx hb dX3_says_161 (by decide) ?_
        refine lv_aload_n hx hb dX3_says_162 rfl (lv_at hl 0 rfl) ?_
        refine mg0 C hI dX3_says_163 ?_
        refine lv_sipush (v := 841) hx hb dX3_says_166 (by decide) ?_
        refine lv_iload hx hb dX3_says_169 (lv_at hl 4 rfl) ?_
        refine lv_iadd hx hb dX3_says_171 ?_
        refine ma0 C hI hf dX3_says_172 (fun v5 hf => ?_)
        refine lv_aload_n hx hb dX3_says_173 rfl (lv_at hl 0 rfl) ?_
        refine mg0 C hI dX3_says_174 ?_
        refine lv_sipush (v := 857) hx hb dX3_says_177 (by decide) ?_
        refine lv_iload hx hb dX3_says_180 (lv_at hl 4 rfl) ?_
        refine lv_iadd hx hb dX3_says_182 ?_
        refine ma0 C hI hf dX3_says_183 (fun v6 hf => ?_)
        refine m_calli (rest := []) C hI hf (mm_comesTo l N _ _ _ _) rfl cqM_comesTo ⟨rfl, rfl⟩ ⟨Nat.le_of_ble_eq_true rfl, Nat.le_of_ble_eq_true rfl⟩ rfl hl.1 rfl (Nat.le_of_ble_eq_true rfl) dX3_says_184 (fun v8 x7 H locs hI hf => ?_)
        refine lv_iconst (v := 0) hx hb dX3_says_187 (by decide) ?_
        refine lv_iload hx hb dX3_says_188 (lv_at hl 3 rfl) ?_
        refine g_calliS (rest := []) C.1 hf (smM_held l N _ _ _) cqM_M_held ⟨rfl, rfl⟩ ⟨Nat.le_of_ble_eq_true rfl, Nat.le_of_ble_eq_true rfl⟩ rfl hl.1 rfl (Nat.le_of_ble_eq_true rfl) ⟨Nat.zero_le _, Nat.zero_le _⟩ dX3_says_190 (fun v9 hf => ?_)
        exact m_iret C hI hf dX3_says_193
def fM_says (N : Nat) (x : MS) (l1 : Int32) (l2 : Int32) (l3 : Int32) (l4 : Int32) : Option (Int32 × MS) :=
  (wr x 11 10 1 l2).bind fun x1 =>
  (rd 1725 (gA x1 0) (4 + l2)).bind fun v2 =>
  (wr x1 11 10 2 v2).bind fun x3 =>
  (rd 1725 (gA x3 0) (16 + l2)).bind fun v4 =>
  (wr x3 11 10 3 v4).bind fun x5 =>
  (rd 1725 (gA x5 0) (28 + l2)).bind fun v6 =>
  (wr x5 11 10 4 v6).bind fun x7 =>
  (rd 1725 (gA x7 0) (93 + l2)).bind fun v8 =>
  (wr x7 11 10 5 v8).bind fun x9 =>
  (wr x9 11 10 6 (gA x9 0 0)).bind fun x10 =>
  (wr x10 11 10 7 (gA x10 0 88)).bind fun x11 =>
  (rd 1725 (gA x11 0) (64 + l2)).bind fun v12 =>
  (wr x11 11 10 8 v12).bind fun x13 =>
  b2 (fM_lacksOf N x13 l2) fun v15 x14 =>
  (wr x14 11 10 9 v15).bind fun x16 =>
  fM_says_b124 N N x16 l1 l3 l4 0
theorem mm_says (l : Launch) (N : Nat) {w : mO} {A : Nat → Prop} : ∀ (x : MS) (l1 : Int32) (l2 : Int32) (l3 : Int32) (l4 : Int32) (r : Int32) (xr : MS), fM_says N x l1 l2 l3 l4 = some (r, xr) → mMet l yX3_says (ws_ yX3_says cX3_says 6 (some .int)) rmM_says [.ref (w.2.2.1 28), .int l1, .int l2, .int l3, .int l4] w A x (some (.int r)) xr := by
  intro x l1 l2 l3 l4 r xr hf
  refine m_start (cc := cX3_says) (by decide +kernel) rfl (Nat.le_of_ble_eq_true rfl) rfl ?_
  intro p e s m args below meth c ls H locs C hI hl
  have hx := C.1.1
  have hb := C.1.2.1
  have hown := C.1.2.2.2.1
  have hts := C.1.2.2.2.2.1
  have hE := C.2.2
  rw [fM_says] at hf
  refine lv_aload_n hx hb dX3_says_0 rfl (lv_at hl 0 rfl) ?_
  refine mg11 C hI dX3_says_1 ?_
  refine lv_iconst (v := 1) hx hb dX3_says_4 (by decide) ?_
  refine lv_iload_n hx hb dX3_says_5 rfl (lv_at hl 2 rfl) ?_
  refine ms11 C hI hf dX3_says_6 (fun x1 H locs hI hf => ?_)
  refine lv_aload_n hx hb dX3_says_7 rfl (lv_at hl 0 rfl) ?_
  refine mg11 C hI dX3_says_8 ?_
  refine lv_iconst (v := 2) hx hb dX3_says_11 (by decide) ?_
  refine lv_aload_n hx hb dX3_says_12 rfl (lv_at hl 0 rfl) ?_
  refine mg0 C hI dX3_says_13 ?_
  refine lv_iconst (v := 4) hx hb dX3_says_16 (by decide) ?_
  refine lv_iload_n hx hb dX3_says_17 rfl (lv_at hl 2 rfl) ?_
  refine lv_iadd hx hb dX3_says_18 ?_
  refine ma0 C hI hf dX3_says_19 (fun v2 hf => ?_)
  refine ms11 C hI hf dX3_says_20 (fun x3 H locs hI hf => ?_)
  refine lv_aload_n hx hb dX3_says_21 rfl (lv_at hl 0 rfl) ?_
  refine mg11 C hI dX3_says_22 ?_
  refine lv_iconst (v := 3) hx hb dX3_says_25 (by decide) ?_
  refine lv_aload_n hx hb dX3_says_26 rfl (lv_at hl 0 rfl) ?_
  refine mg0 C hI dX3_says_27 ?_
  refine lv_bipush (v := 16) hx hb dX3_says_30 (by decide) ?_
  refine lv_iload_n hx hb dX3_says_32 rfl (lv_at hl 2 rfl) ?_
  refine lv_iadd hx hb dX3_says_33 ?_
  refine ma0 C hI hf dX3_says_34 (fun v4 hf => ?_)
  refine ms11 C hI hf dX3_says_35 (fun x5 H locs hI hf => ?_)
  refine lv_aload_n hx hb dX3_says_36 rfl (lv_at hl 0 rfl) ?_
  refine mg11 C hI dX3_says_37 ?_
  refine lv_iconst (v := 4) hx hb dX3_says_40 (by decide) ?_
  refine lv_aload_n hx hb dX3_says_41 rfl (lv_at hl 0 rfl) ?_
  refine mg0 C hI dX3_says_42 ?_
  refine lv_bipush (v := 28) hx hb dX3_says_45 (by decide) ?_
  refine lv_iload_n hx hb dX3_says_47 rfl (lv_at hl 2 rfl) ?_
  refine lv_iadd hx hb dX3_says_48 ?_
  refine ma0 C hI hf dX3_says_49 (fun v6 hf => ?_)
  refine ms11 C hI hf dX3_says_50 (fun x7 H locs hI hf => ?_)
  refine lv_aload_n hx hb dX3_says_51 rfl (lv_at hl 0 rfl) ?_
  refine mg11 C hI dX3_says_52 ?_
  refine lv_iconst (v := 5) hx hb dX3_says_55 (by decide) ?_
  refine lv_aload_n hx hb dX3_says_56 rfl (lv_at hl 0 rfl) ?_
  refine mg0 C hI dX3_says_57 ?_
  refine lv_bipush (v := 93) hx hb dX3_says_60 (by decide) ?_
  refine lv_iload_n hx hb dX3_says_62 rfl (lv_at hl 2 rfl) ?_
  refine lv_iadd hx hb dX3_says_63 ?_
  refine ma0 C hI hf dX3_says_64 (fun v8 hf => ?_)
  refine ms11 C hI hf dX3_says_65 (fun x9 H locs hI hf => ?_)
  refine lv_aload_n hx hb dX3_says_66 rfl (lv_at hl 0 rfl) ?_
  refine mg11 C hI dX3_says_67 ?_
  refine lv_bipush (v := 6) hx hb dX3_says_70 (by decide) ?_
  refine lv_aload_n hx hb dX3_says_72 rfl (lv_at hl 0 rfl) ?_
  refine mg0 C hI dX3_says_73 ?_
  refine lv_iconst (v := 0) hx hb dX3_says_76 (by decide) ?_
  refine mac0 C hI rc1725_0 dX3_says_77 ?_
  refine ms11 C hI hf dX3_says_78 (fun x10 H locs hI hf => ?_)
  refine lv_aload_n hx hb dX3_says_79 rfl (lv_at hl 0 rfl) ?_
  refine mg11 C hI dX3_says_80 ?_
  refine lv_bipush (v := 7) hx hb dX3_says_83 (by decide) ?_
  refine lv_aload_n hx hb dX3_says_85 rfl (lv_at hl 0 rfl) ?_
  refine mg0 C hI dX3_says_86 ?_
  refine lv_bipush (v := 88) hx hb dX3_says_89 (by decide) ?_
  refine mac0 C hI rc1725_88 dX3_says_91 ?_
  refine ms11 C hI hf dX3_says_92 (fun x11 H locs hI hf => ?_)
  refine lv_aload_n hx hb dX3_says_93 rfl (lv_at hl 0 rfl) ?_
  refine mg11 C hI dX3_says_94 ?_
  refine lv_bipush (v := 8) hx hb dX3_says_97 (by decide) ?_
  refine lv_aload_n hx hb dX3_says_99 rfl (lv_at hl 0 rfl) ?_
  refine mg0 C hI dX3_says_100 ?_
  refine lv_bipush (v := 64) hx hb dX3_says_103 (by decide) ?_
  refine lv_iload_n hx hb dX3_says_105 rfl (lv_at hl 2 rfl) ?_
  refine lv_iadd hx hb dX3_says_106 ?_
  refine ma0 C hI hf dX3_says_107 (fun v12 hf => ?_)
  refine ms11 C hI hf dX3_says_108 (fun x13 H locs hI hf => ?_)
  refine lv_aload_n hx hb dX3_says_109 rfl (lv_at hl 0 rfl) ?_
  refine mg11 C hI dX3_says_110 ?_
  refine lv_bipush (v := 9) hx hb dX3_says_113 (by decide) ?_
  refine lv_aload_n hx hb dX3_says_115 rfl (lv_at hl 0 rfl) ?_
  refine lv_iload_n hx hb dX3_says_116 rfl (lv_at hl 2 rfl) ?_
  refine m_calli (rest := [.int 9, .ref (w.2.2.1 11)]) C hI hf (mm_lacksOf l N _ _) rfl cqM_lacksOf ⟨rfl, rfl⟩ ⟨Nat.le_of_ble_eq_true rfl, Nat.le_of_ble_eq_true rfl⟩ rfl hl.1 rfl (Nat.le_of_ble_eq_true rfl) dX3_says_117 (fun v15 x14 H locs hI hf => ?_)
  refine ms11 C hI hf dX3_says_120 (fun x16 H locs hI hf => ?_)
  refine lv_iconst (v := 0) hx hb dX3_says_121 (by decide) ?_
  refine lv_istore (lv' := [(5, .int 0), (0, .ref (w.2.2.1 28)), (1, .int l1), (2, .int l2), (3, .int l3), (4, .int l4)]) hx hb dX3_says_122 hl (by decide) rfl (fun ls hl => ?_)
  exact w_fM_says_b124 C N x16 l1 l3 l4 0 _ _ _ hI (lv_sub hl [1, 2, 4, 5, 0] rfl) hf
/-! giveOf(I)I -/
abbrev rmM_giveOf : Room := { frames := 4, cells := 0, slots := 0, locals := 95 }
def fM_giveOf_b31 (N : Nat) (x : MS) (s1 : Int32) (s2 : Int32) (s3 : Int32) : Option (Int32 × MS) :=
  b2 (fM_says N x s1 s2 s3 999) fun v2 x1 =>
  some (v2, x1)
theorem w_fM_giveOf_b31 {N : Nat} {r : Int32} {xr : MS} (C : mC w A p s m args meth c cX3_giveOf 2 (some .int)) : ∀ (x : MS) (s1 : Int32) (s2 : Int32) (s3 : Int32) (H : Heap) (locs : List Loc) (ls : Array Slot), mI w A x s.heap H locs → lv_has ls 2 [] → fM_giveOf_b31 N x s1 s2 s3 = some (r, xr) → W p l e rmM_giveOf s m args below meth c H locs 0 0 (MQ below (mQ w A (some (.int r)) xr) args s 0 0 A) (F0 m 31 ls [.int s3, .int s2, .int s1, .ref (w.2.2.1 28)]) := by
  have hx := C.1.1
  have hb := C.1.2.1
  have hown := C.1.2.2.2.1
  have hts := C.1.2.2.2.2.1
  have hE := C.2.2
  intro x s1 s2 s3 H locs ls hI hl hf
  rw [fM_giveOf_b31] at hf
  refine lv_sipush (v := 999) hx hb dX3_giveOf_31 (by decide) ?_
  refine m_calli (rest := []) C hI hf (mm_says l N _ _ _ _ _) rfl cqM_says ⟨rfl, rfl⟩ ⟨Nat.le_of_ble_eq_true rfl, Nat.le_of_ble_eq_true rfl⟩ rfl hl.1 rfl (Nat.le_of_ble_eq_true rfl) dX3_giveOf_34 (fun v2 x1 H locs hI hf => ?_)
  exact m_iret C hI hf dX3_giveOf_37
def fM_giveOf (N : Nat) (x : MS) (l1 : Int32) : Option (Int32 × MS) :=
  (rd 1725 (gA x 0) (28 + l1)).bind fun v1 =>
  if 0 ≤ v1 then
    (rd 1725 (gA x 0) (28 + l1)).bind fun v2 =>
    (dv v2 4).bind fun v3 =>
    fM_giveOf_b31 N x 22 l1 v3
  else
    fM_giveOf_b31 N x 22 l1 0
theorem mm_giveOf (l : Launch) (N : Nat) {w : mO} {A : Nat → Prop} : ∀ (x : MS) (l1 : Int32) (r : Int32) (xr : MS), fM_giveOf N x l1 = some (r, xr) → mMet l yX3_giveOf (ws_ yX3_giveOf cX3_giveOf 2 (some .int)) rmM_giveOf [.ref (w.2.2.1 28), .int l1] w A x (some (.int r)) xr := by
  intro x l1 r xr hf
  refine m_start (cc := cX3_giveOf) (by decide +kernel) rfl (Nat.le_of_ble_eq_true rfl) rfl ?_
  intro p e s m args below meth c ls H locs C hI hl
  have hx := C.1.1
  have hb := C.1.2.1
  have hown := C.1.2.2.2.1
  have hts := C.1.2.2.2.2.1
  have hE := C.2.2
  rw [fM_giveOf] at hf
  refine lv_aload_n hx hb dX3_giveOf_0 rfl (lv_at hl 0 rfl) ?_
  refine lv_bipush (v := 22) hx hb dX3_giveOf_1 (by decide) ?_
  refine lv_iload_n hx hb dX3_giveOf_3 rfl (lv_at hl 1 rfl) ?_
  refine lv_aload_n hx hb dX3_giveOf_4 rfl (lv_at hl 0 rfl) ?_
  refine mg0 C hI dX3_giveOf_5 ?_
  refine lv_bipush (v := 28) hx hb dX3_giveOf_8 (by decide) ?_
  refine lv_iload_n hx hb dX3_giveOf_10 rfl (lv_at hl 1 rfl) ?_
  refine lv_iadd hx hb dX3_giveOf_11 ?_
  refine ma0 C hI hf dX3_giveOf_12 (fun v1 hf => ?_)
  refine b_ifge (tgt := 20) hx hb hf dX3_giveOf_13 (by decide) (fun hf => ?_) (fun hf => ?_)
  · refine lv_aload_n hx hb dX3_giveOf_20 rfl (lv_at hl 0 rfl) ?_
    refine mg0 C hI dX3_giveOf_21 ?_
    refine lv_bipush (v := 28) hx hb dX3_giveOf_24 (by decide) ?_
    refine lv_iload_n hx hb dX3_giveOf_26 rfl (lv_at hl 1 rfl) ?_
    refine lv_iadd hx hb dX3_giveOf_27 ?_
    refine ma0 C hI hf dX3_giveOf_28 (fun v2 hf => ?_)
    refine lv_iconst (v := 4) hx hb dX3_giveOf_29 (by decide) ?_
    refine b_idiv hx hb hf dX3_giveOf_30 (fun v3 hf => ?_)
    exact w_fM_giveOf_b31 C x 22 l1 v3 _ _ _ hI (lv_sub hl [] rfl) hf
  · refine lv_iconst (v := 0) hx hb dX3_giveOf_16 (by decide) ?_
    refine lv_goto (tgt := 31) hx hb dX3_giveOf_17 (by decide) ?_
    exact w_fM_giveOf_b31 C x 22 l1 0 _ _ _ hI (lv_sub hl [] rfl) hf
/-! notes(III)V -/
abbrev rmM_notes : Room := { frames := 0, cells := 0, slots := 0, locals := 0 }
def fM_notes (N : Nat) (x : MS) (l1 : Int32) (l2 : Int32) (l3 : Int32) : Option MS :=
  if (gS x 26) = 0 then
    some x
  else
    if (gA x 0 3) = 150 then
      some x
    else
      (wr x 0 1725 (241 + (4 * (gA x 0 3))) (gA x 0 0)).bind fun x1 =>
      (wr x1 0 1725 ((241 + (4 * (gA x 0 3))) + 1) l1).bind fun x2 =>
      (wr x2 0 1725 ((241 + (4 * (gA x 0 3))) + 2) l2).bind fun x3 =>
      (wr x3 0 1725 ((241 + (4 * (gA x 0 3))) + 3) l3).bind fun x4 =>
      (wr x4 0 1725 3 ((gA x4 0 3) + 1)).bind fun x5 =>
      some x5
theorem mm_notes (l : Launch) (N : Nat) {w : mO} {A : Nat → Prop} : ∀ (x : MS) (l1 : Int32) (l2 : Int32) (l3 : Int32) (xr : MS), fM_notes N x l1 l2 l3 = some xr → mMet l yX3_notes (ws_ yX3_notes cX3_notes 5 none) rmM_notes [.ref (w.2.2.1 28), .int l1, .int l2, .int l3] w A x none xr := by
  intro x l1 l2 l3 xr hf
  refine m_start (cc := cX3_notes) (by decide +kernel) rfl (Nat.le_of_ble_eq_true rfl) rfl ?_
  intro p e s m args below meth c ls H locs C hI hl
  have hx := C.1.1
  have hb := C.1.2.1
  have hown := C.1.2.2.2.1
  have hts := C.1.2.2.2.2.1
  have hE := C.2.2
  rw [fM_notes] at hf
  refine lv_aload_n hx hb dX3_notes_0 rfl (lv_at hl 0 rfl) ?_
  refine mg26 C hI dX3_notes_1 ?_
  refine b_ifeq (tgt := 19) hx hb hf dX3_notes_4 (by decide) (fun hf => ?_) (fun hf => ?_)
  · exact m_vret C hI hf dX3_notes_19
  · refine lv_aload_n hx hb dX3_notes_7 rfl (lv_at hl 0 rfl) ?_
    refine mg0 C hI dX3_notes_8 ?_
    refine lv_iconst (v := 3) hx hb dX3_notes_11 (by decide) ?_
    refine mac0 C hI rc1725_3 dX3_notes_12 ?_
    refine lv_sipush (v := 150) hx hb dX3_notes_13 (by decide) ?_
    refine b_icne (tgt := 20) hx hb hf dX3_notes_16 (by decide) (fun hf => ?_) (fun hf => ?_)
    · refine lv_sipush (v := 241) hx hb dX3_notes_20 (by decide) ?_
      refine lv_iconst (v := 4) hx hb dX3_notes_23 (by decide) ?_
      refine lv_aload_n hx hb dX3_notes_24 rfl (lv_at hl 0 rfl) ?_
      refine mg0 C hI dX3_notes_25 ?_
      refine lv_iconst (v := 3) hx hb dX3_notes_28 (by decide) ?_
      refine mac0 C hI rc1725_3 dX3_notes_29 ?_
      refine lv_imul hx hb dX3_notes_30 ?_
      refine lv_iadd hx hb dX3_notes_31 ?_
      refine lv_istore (lv' := [(4, .int (241 + (4 * (gA x 0 3)))), (0, .ref (w.2.2.1 28)), (1, .int l1), (2, .int l2), (3, .int l3)]) hx hb dX3_notes_32 hl (by decide) rfl (fun ls hl => ?_)
      refine lv_aload_n hx hb dX3_notes_34 rfl (lv_at hl 1 rfl) ?_
      refine mg0 C hI dX3_notes_35 ?_
      refine lv_iload hx hb dX3_notes_38 (lv_at hl 0 rfl) ?_
      refine lv_aload_n hx hb dX3_notes_40 rfl (lv_at hl 1 rfl) ?_
      refine mg0 C hI dX3_notes_41 ?_
      refine lv_iconst (v := 0) hx hb dX3_notes_44 (by decide) ?_
      refine mac0 C hI rc1725_0 dX3_notes_45 ?_
      refine ms0 C hI hf dX3_notes_46 (fun x1 H locs hI hf => ?_)
      refine lv_aload_n hx hb dX3_notes_47 rfl (lv_at hl 1 rfl) ?_
      refine mg0 C hI dX3_notes_48 ?_
      refine lv_iload hx hb dX3_notes_51 (lv_at hl 0 rfl) ?_
      refine lv_iconst (v := 1) hx hb dX3_notes_53 (by decide) ?_
      refine lv_iadd hx hb dX3_notes_54 ?_
      refine lv_iload_n hx hb dX3_notes_55 rfl (lv_at hl 2 rfl) ?_
      refine ms0 C hI hf dX3_notes_56 (fun x2 H locs hI hf => ?_)
      refine lv_aload_n hx hb dX3_notes_57 rfl (lv_at hl 1 rfl) ?_
      refine mg0 C hI dX3_notes_58 ?_
      refine lv_iload hx hb dX3_notes_61 (lv_at hl 0 rfl) ?_
      refine lv_iconst (v := 2) hx hb dX3_notes_63 (by decide) ?_
      refine lv_iadd hx hb dX3_notes_64 ?_
      refine lv_iload_n hx hb dX3_notes_65 rfl (lv_at hl 3 rfl) ?_
      refine ms0 C hI hf dX3_notes_66 (fun x3 H locs hI hf => ?_)
      refine lv_aload_n hx hb dX3_notes_67 rfl (lv_at hl 1 rfl) ?_
      refine mg0 C hI dX3_notes_68 ?_
      refine lv_iload hx hb dX3_notes_71 (lv_at hl 0 rfl) ?_
      refine lv_iconst (v := 3) hx hb dX3_notes_73 (by decide) ?_
      refine lv_iadd hx hb dX3_notes_74 ?_
      refine lv_iload_n hx hb dX3_notes_75 rfl (lv_at hl 4 rfl) ?_
      refine ms0 C hI hf dX3_notes_76 (fun x4 H locs hI hf => ?_)
      refine lv_aload_n hx hb dX3_notes_77 rfl (lv_at hl 1 rfl) ?_
      refine mg0 C hI dX3_notes_78 ?_
      refine lv_iconst (v := 3) hx hb dX3_notes_81 (by decide) ?_
      refine lv_dup2_11 hx hb dX3_notes_82 rfl rfl ?_
      refine mac0 C hI rc1725_3 dX3_notes_83 ?_
      refine lv_iconst (v := 1) hx hb dX3_notes_84 (by decide) ?_
      refine lv_iadd hx hb dX3_notes_85 ?_
      refine ms0 C hI hf dX3_notes_86 (fun x5 H locs hI hf => ?_)
      exact m_vret C hI hf dX3_notes_87
    · exact m_vret C hI hf dX3_notes_19
/-! asks(II)I -/
abbrev rmM_asks : Room := { frames := 5, cells := 0, slots := 0, locals := 116 }
def fM_asks (N : Nat) (x : MS) (l1 : Int32) (l2 : Int32) : Option (Int32 × MS) :=
  b2 (fM_giveOf N x (l1 + 1)) fun v2 x1 =>
  (fM_lesser N v2 l2).bind fun v3 =>
  (rd 1725 (gA x1 0) (4 + (l1 + 1))).bind fun v4 =>
  (fM_lesser N v3 (v4 - 1)).bind fun v5 =>
  (rd 1725 (gA x1 0) (4 + (l1 + 1))).bind fun v6 =>
  (wr x1 0 1725 (4 + (l1 + 1)) (v6 - v5)).bind fun x7 =>
  (rd 1725 (gA x7 0) (28 + (l1 + 1))).bind fun v8 =>
  (fM_greater N (-999) (v8 - v5)).bind fun v9 =>
  (wr x7 0 1725 (28 + (l1 + 1)) v9).bind fun x10 =>
  (fM_notes N x10 0 (l1 + 1) v5).bind fun x11 =>
  some (v5, x11)
theorem mm_asks (l : Launch) (N : Nat) {w : mO} {A : Nat → Prop} : ∀ (x : MS) (l1 : Int32) (l2 : Int32) (r : Int32) (xr : MS), fM_asks N x l1 l2 = some (r, xr) → mMet l yX3_asks (ws_ yX3_asks cX3_asks 5 (some .int)) rmM_asks [.ref (w.2.2.1 28), .int l1, .int l2] w A x (some (.int r)) xr := by
  intro x l1 l2 r xr hf
  refine m_start (cc := cX3_asks) (by decide +kernel) rfl (Nat.le_of_ble_eq_true rfl) rfl ?_
  intro p e s m args below meth c ls H locs C hI hl
  have hx := C.1.1
  have hb := C.1.2.1
  have hown := C.1.2.2.2.1
  have hts := C.1.2.2.2.2.1
  have hE := C.2.2
  rw [fM_asks] at hf
  refine lv_iload_n hx hb dX3_asks_0 rfl (lv_at hl 1 rfl) ?_
  refine lv_iconst (v := 1) hx hb dX3_asks_1 (by decide) ?_
  refine lv_iadd hx hb dX3_asks_2 ?_
  refine lv_istore_n (lv' := [(3, .int (l1 + 1)), (0, .ref (w.2.2.1 28)), (1, .int l1), (2, .int l2)]) hx hb dX3_asks_3 rfl hl (by decide) rfl (fun ls hl => ?_)
  refine lv_aload_n hx hb dX3_asks_4 rfl (lv_at hl 1 rfl) ?_
  refine lv_iload_n hx hb dX3_asks_5 rfl (lv_at hl 0 rfl) ?_
  refine m_calli (rest := []) C hI hf (mm_giveOf l N _ _) rfl cqM_giveOf ⟨rfl, rfl⟩ ⟨Nat.le_of_ble_eq_true rfl, Nat.le_of_ble_eq_true rfl⟩ rfl hl.1 rfl (Nat.le_of_ble_eq_true rfl) dX3_asks_6 (fun v2 x1 H locs hI hf => ?_)
  refine lv_iload_n hx hb dX3_asks_9 rfl (lv_at hl 3 rfl) ?_
  refine g_calliS (rest := []) C.1 hf (smM_lesser l N _ _) cqM_M_lesser ⟨rfl, rfl⟩ ⟨Nat.le_of_ble_eq_true rfl, Nat.le_of_ble_eq_true rfl⟩ rfl hl.1 rfl (Nat.le_of_ble_eq_true rfl) ⟨Nat.zero_le _, Nat.zero_le _⟩ dX3_asks_10 (fun v3 hf => ?_)
  refine lv_aload_n hx hb dX3_asks_13 rfl (lv_at hl 1 rfl) ?_
  refine mg0 C hI dX3_asks_14 ?_
  refine lv_iconst (v := 4) hx hb dX3_asks_17 (by decide) ?_
  refine lv_iload_n hx hb dX3_asks_18 rfl (lv_at hl 0 rfl) ?_
  refine lv_iadd hx hb dX3_asks_19 ?_
  refine ma0 C hI hf dX3_asks_20 (fun v4 hf => ?_)
  refine lv_iconst (v := 1) hx hb dX3_asks_21 (by decide) ?_
  refine lv_isub hx hb dX3_asks_22 ?_
  refine g_calliS (rest := []) C.1 hf (smM_lesser l N _ _) cqM_M_lesser ⟨rfl, rfl⟩ ⟨Nat.le_of_ble_eq_true rfl, Nat.le_of_ble_eq_true rfl⟩ rfl hl.1 rfl (Nat.le_of_ble_eq_true rfl) ⟨Nat.zero_le _, Nat.zero_le _⟩ dX3_asks_23 (fun v5 hf => ?_)
  refine lv_istore (lv' := [(4, .int v5), (3, .int (l1 + 1)), (0, .ref (w.2.2.1 28)), (1, .int l1), (2, .int l2)]) hx hb dX3_asks_26 hl (by decide) rfl (fun ls hl => ?_)
  refine lv_aload_n hx hb dX3_asks_28 rfl (lv_at hl 2 rfl) ?_
  refine mg0 C hI dX3_asks_29 ?_
  refine lv_iconst (v := 4) hx hb dX3_asks_32 (by decide) ?_
  refine lv_iload_n hx hb dX3_asks_33 rfl (lv_at hl 1 rfl) ?_
  refine lv_iadd hx hb dX3_asks_34 ?_
  refine lv_dup2_11 hx hb dX3_asks_35 rfl rfl ?_
  refine ma0 C hI hf dX3_asks_36 (fun v6 hf => ?_)
  refine lv_iload hx hb dX3_asks_37 (lv_at hl 0 rfl) ?_
  refine lv_isub hx hb dX3_asks_39 ?_
  refine ms0 C hI hf dX3_asks_40 (fun x7 H locs hI hf => ?_)
  refine lv_aload_n hx hb dX3_asks_41 rfl (lv_at hl 2 rfl) ?_
  refine mg0 C hI dX3_asks_42 ?_
  refine lv_bipush (v := 28) hx hb dX3_asks_45 (by decide) ?_
  refine lv_iload_n hx hb dX3_asks_47 rfl (lv_at hl 1 rfl) ?_
  refine lv_iadd hx hb dX3_asks_48 ?_
  refine lv_sipush (v := (-999)) hx hb dX3_asks_49 (by decide) ?_
  refine lv_aload_n hx hb dX3_asks_52 rfl (lv_at hl 2 rfl) ?_
  refine mg0 C hI dX3_asks_53 ?_
  refine lv_bipush (v := 28) hx hb dX3_asks_56 (by decide) ?_
  refine lv_iload_n hx hb dX3_asks_58 rfl (lv_at hl 1 rfl) ?_
  refine lv_iadd hx hb dX3_asks_59 ?_
  refine ma0 C hI hf dX3_asks_60 (fun v8 hf => ?_)
  refine lv_iload hx hb dX3_asks_61 (lv_at hl 0 rfl) ?_
  refine lv_isub hx hb dX3_asks_63 ?_
  refine g_calliS (rest := [.int (28 + (l1 + 1)), .ref (w.2.2.1 0)]) C.1 hf (smM_greater l N _ _) cqM_M_greater ⟨rfl, rfl⟩ ⟨Nat.le_of_ble_eq_true rfl, Nat.le_of_ble_eq_true rfl⟩ rfl hl.1 rfl (Nat.le_of_ble_eq_true rfl) ⟨Nat.zero_le _, Nat.zero_le _⟩ dX3_asks_64 (fun v9 hf => ?_)
  refine ms0 C hI hf dX3_asks_67 (fun x10 H locs hI hf => ?_)
  refine lv_aload_n hx hb dX3_asks_68 rfl (lv_at hl 2 rfl) ?_
  refine lv_iconst (v := 0) hx hb dX3_asks_69 (by decide) ?_
  refine lv_iload_n hx hb dX3_asks_70 rfl (lv_at hl 1 rfl) ?_
  refine lv_iload hx hb dX3_asks_71 (lv_at hl 0 rfl) ?_
  refine m_callv (rest := []) C hI hf (mm_notes l N _ _ _ _) rfl cqM_notes ⟨rfl, rfl⟩ ⟨Nat.le_of_ble_eq_true rfl, Nat.le_of_ble_eq_true rfl⟩ rfl hl.1 rfl (Nat.le_of_ble_eq_true rfl) dX3_asks_73 (fun x11 H locs hI hf => ?_)
  refine lv_iload hx hb dX3_asks_76 (lv_at hl 0 rfl) ?_
  exact m_iret C hI hf dX3_asks_78
