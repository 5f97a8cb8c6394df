set_option maxRecDepth 100000
variable {p : Program} {l : Launch} {e : Env} {R : Room} {s : State} {m : MethodId} {args : Array Value} {below : List Frame} {meth : Method} {c : Code} {H : Heap} {locs : List Loc} {Q : State → Prop}
variable {w : mO} {A : Nat → Prop}
/-! days(I)I -/
abbrev rmM_days : Room := { frames := 8, cells := 0, slots := 0, locals := 184 }
def fM_days_b30 (N : Nat) : Nat → MS → Int32 → Int32 → Int32 → Option (Int32 × MS)
  | 0, _, _, _, _ => none
  | n + 1, x, l1, l2, l3 =>
  if l1 ≤ l3 then
    some (l2, x)
  else
    (fM_keeps N x).bind fun x1 =>
    b2 (fM_aDay N x1) fun v3 x2 =>
    fM_days_b30 N n x2 l1 (l2 + v3) (l3 + 1)
theorem w_fM_days_b30 {N : Nat} {r : Int32} {xr : MS} (C : mC w A p s m args meth c cX3_days 4 (some .int)) : ∀ (n : Nat) (x : MS) (l1 : Int32) (l2 : Int32) (l3 : Int32) (H : Heap) (locs : List Loc) (ls : Array Slot), mI w A x s.heap H locs → lv_has ls 4 [(0, .ref (w.2.2.1 28)), (1, .int l1), (2, .int l2), (3, .int l3)] → fM_days_b30 N n x l1 l2 l3 = some (r, xr) → W p l e rmM_days s m args below meth c H locs 0 0 (MQ below (mQ w A (some (.int r)) xr) args s 0 0 A) (F0 m 30 ls []) := by
  have hx := C.1.1
  have hb := C.1.2.1
  have hown := C.1.2.2.2.1
  have hts := C.1.2.2.2.2.1
  have hE := C.2.2
  intro n
  induction n with
  | zero => intro x l1 l2 l3 H locs ls hI hl hf; rw [fM_days_b30] at hf; cases hf
  | succ n ih =>
  intro x l1 l2 l3 H locs ls hI hl hf
  rw [fM_days_b30] at hf
  refine lv_iload_n hx hb dX3_days_30 rfl (lv_at hl 3 rfl) ?_
  refine lv_iload_n hx hb dX3_days_31 rfl (lv_at hl 1 rfl) ?_
  refine b_icge (tgt := 52) hx hb hf dX3_days_32 (by decide) (fun hf => ?_) (fun hf => ?_)
  · refine lv_iload_n hx hb dX3_days_52 rfl (lv_at hl 2 rfl) ?_
    exact m_iret C hI hf dX3_days_53
  · refine lv_aload_n hx hb dX3_days_35 rfl (lv_at hl 0 rfl) ?_
    refine m_callv (rest := []) C hI hf (mm_keeps l N _) rfl cqM_keeps ⟨rfl, rfl⟩ ⟨Nat.le_of_ble_eq_true rfl, Nat.le_of_ble_eq_true rfl⟩ rfl hl.1 rfl (Nat.le_of_ble_eq_true rfl) dX3_days_36 (fun x1 H locs hI hf => ?_)
    refine lv_iload_n hx hb dX3_days_39 rfl (lv_at hl 2 rfl) ?_
    refine lv_aload_n hx hb dX3_days_40 rfl (lv_at hl 0 rfl) ?_
    refine m_calli (rest := [.int l2]) C hI hf (mm_aDay l N _) rfl cqM_aDay ⟨rfl, rfl⟩ ⟨Nat.le_of_ble_eq_true rfl, Nat.le_of_ble_eq_true rfl⟩ rfl hl.1 rfl (Nat.le_of_ble_eq_true rfl) dX3_days_41 (fun v3 x2 H locs hI hf => ?_)
    refine lv_iadd hx hb dX3_days_44 ?_
    refine lv_istore_n (lv' := [(2, .int (l2 + v3)), (0, .ref (w.2.2.1 28)), (1, .int l1), (3, .int l3)]) hx hb dX3_days_45 rfl hl (by decide) rfl (fun ls hl => ?_)
    refine lv_iinc (v := l3 + 1) (lv' := [(3, .int (l3 + 1)), (2, .int (l2 + v3)), (0, .ref (w.2.2.1 28)), (1, .int l1)]) hx hb dX3_days_46 hl (k := 3) rfl rfl (by decide) rfl (fun ls hl => ?_)
    refine lv_goto (tgt := 30) hx hb dX3_days_49 (by decide) ?_
    exact ih x2 l1 (l2 + v3) (l3 + 1) _ _ _ hI (lv_sub hl [2, 3, 1, 0] rfl) hf
def fM_days (N : Nat) (x : MS) (l1 : Int32) : Option (Int32 × MS) :=
  (fM_isIn N l1 1 60).bind fun v1 =>
  if v1 = 0 then
    some ((-1), x)
  else
    if ((gA x 0 0) + l1) ≤ 9999 then
      fM_days_b30 N N x l1 0 0
    else
      some ((-1), x)
theorem mm_days (l : Launch) (N : Nat) {w : mO} {A : Nat → Prop} : ∀ (x : MS) (l1 : Int32) (r : Int32) (xr : MS), fM_days N x l1 = some (r, xr) → mMet l yX3_days (ws_ yX3_days cX3_days 4 (some .int)) rmM_days [.ref (w.2.2.1 28), .int l1] w A x (some (.int r)) xr := by
  intro x l1 r xr hf
  refine m_start (cc := cX3_days) (by decide +kernel) rfl (Nat.le_of_ble_eq_true rfl) rfl ?_
  intro p e s m args below meth c ls H locs C hI hl
  have hx := C.1.1
  have hb := C.1.2.1
  have hown := C.1.2.2.2.1
  have hts := C.1.2.2.2.2.1
  have hE := C.2.2
  rw [fM_days] at hf
  refine lv_iload_n hx hb dX3_days_0 rfl (lv_at hl 1 rfl) ?_
  refine lv_iconst (v := 1) hx hb dX3_days_1 (by decide) ?_
  refine lv_bipush (v := 60) hx hb dX3_days_2 (by decide) ?_
  refine g_calliS (rest := []) C.1 hf (smM_isIn l N _ _ _) cqM_M_isIn ⟨rfl, rfl⟩ ⟨Nat.le_of_ble_eq_true rfl, Nat.le_of_ble_eq_true rfl⟩ rfl hl.1 rfl (Nat.le_of_ble_eq_true rfl) ⟨Nat.zero_le _, Nat.zero_le _⟩ dX3_days_4 (fun v1 hf => ?_)
  refine b_ifeq (tgt := 24) hx hb hf dX3_days_7 (by decide) (fun hf => ?_) (fun hf => ?_)
  · refine lv_iconst (v := (-1)) hx hb dX3_days_24 (by decide) ?_
    exact m_iret C hI hf dX3_days_25
  · refine lv_aload_n hx hb dX3_days_10 rfl (lv_at hl 0 rfl) ?_
    refine mg0 C hI dX3_days_11 ?_
    refine lv_iconst (v := 0) hx hb dX3_days_14 (by decide) ?_
    refine mac0 C hI rc1725_0 dX3_days_15 ?_
    refine lv_iload_n hx hb dX3_days_16 rfl (lv_at hl 1 rfl) ?_
    refine lv_iadd hx hb dX3_days_17 ?_
    refine lv_sipush (v := 9999) hx hb dX3_days_18 (by decide) ?_
    refine b_icle (tgt := 26) hx hb hf dX3_days_21 (by decide) (fun hf => ?_) (fun hf => ?_)
    · refine lv_iconst (v := 0) hx hb dX3_days_26 (by decide) ?_
      refine lv_istore_n (lv' := [(2, .int 0), (0, .ref (w.2.2.1 28)), (1, .int l1)]) hx hb dX3_days_27 rfl hl (by decide) rfl (fun ls hl => ?_)
      refine lv_iconst (v := 0) hx hb dX3_days_28 (by decide) ?_
      refine lv_istore_n (lv' := [(3, .int 0), (2, .int 0), (0, .ref (w.2.2.1 28)), (1, .int l1)]) hx hb dX3_days_29 rfl hl (by decide) rfl (fun ls hl => ?_)
      exact w_fM_days_b30 C N x l1 0 0 _ _ _ hI (lv_sub hl [2, 3, 1, 0] rfl) hf
    · refine lv_iconst (v := (-1)) hx hb dX3_days_24 (by decide) ?_
      exact m_iret C hI hf dX3_days_25
/-! of(II)I -/
abbrev rmM_of : Room := { frames := 5, cells := 0, slots := 0, locals := 116 }
def fM_of_b126 (N : Nat) (x : MS) (l1 : Int32) (l2 : Int32) : Option (Int32 × MS) :=
  (fM_isIn N l2 0 7).bind fun v1 =>
  if v1 = 0 then
    some ((-100000), x)
  else
    lt (if 3 ≤ l2 then l2 - 1 else l2 : Int32) fun v2 =>
    (rd 1725 (gA x 0) ((4 + (12 * v2)) + l1)).bind fun v3 =>
    some (v3, x)
theorem w_fM_of_b126 {N : Nat} {r : Int32} {xr : MS} (C : mC w A p s m args meth c cX3_of 3 (some .int)) : ∀ (x : MS) (l1 : Int32) (l2 : Int32) (H : Heap) (locs : List Loc) (ls : Array Slot), mI w A x s.heap H locs → lv_has ls 3 [(0, .ref (w.2.2.1 28)), (1, .int l1), (2, .int l2)] → fM_of_b126 N x l1 l2 = some (r, xr) → W p l e rmM_of s m args below meth c H locs 0 0 (MQ below (mQ w A (some (.int r)) xr) args s 0 0 A) (F0 m 126 ls []) := by
  have hx := C.1.1
  have hb := C.1.2.1
  have hown := C.1.2.2.2.1
  have hts := C.1.2.2.2.2.1
  have hE := C.2.2
  intro x l1 l2 H locs ls hI hl hf
  rw [fM_of_b126] at hf
  refine lv_iload_n hx hb dX3_of_126 rfl (lv_at hl 2 rfl) ?_
  refine lv_iconst (v := 0) hx hb dX3_of_127 (by decide) ?_
  refine lv_bipush (v := 7) hx hb dX3_of_128 (by decide) ?_
  refine g_calliS (rest := []) C.1 hf (smM_isIn l N _ _ _) cqM_M_isIn ⟨rfl, rfl⟩ ⟨Nat.le_of_ble_eq_true rfl, Nat.le_of_ble_eq_true rfl⟩ rfl hl.1 rfl (Nat.le_of_ble_eq_true rfl) ⟨Nat.zero_le _, Nat.zero_le _⟩ dX3_of_130 (fun v1 hf => ?_)
  refine b_ifeq (tgt := 163) hx hb hf dX3_of_133 (by decide) (fun hf => ?_) (fun hf => ?_)
  · refine lv_ldcw hx hb hown (hts _ q1829) dX3_of_163 ?_
    exact m_iret C hI hf dX3_of_166
  · refine lv_aload_n hx hb dX3_of_136 rfl (lv_at hl 0 rfl) ?_
    refine mg0 C hI dX3_of_137 ?_
    refine lv_iconst (v := 4) hx hb dX3_of_140 (by decide) ?_
    refine lv_bipush (v := 12) hx hb dX3_of_141 (by decide) ?_
    refine lv_iload_n hx hb dX3_of_143 rfl (lv_at hl 2 rfl) ?_
    refine lv_iconst (v := 3) hx hb dX3_of_144 (by decide) ?_
    suffices hJ : ∀ v2 : Int32, (v2 = (if 3 ≤ l2 then l2 - 1 else l2 : Int32)) → W p l e rmM_of s m args below meth c H locs 0 0 (MQ below (mQ w A (some (.int r)) xr) args s 0 0 A) (F0 m 155 ls [.int v2, .int 12, .int 4, .ref (w.2.2.1 0)]) by
      refine lv_icmp_ge (tgt := 152) hx hb dX3_of_145 (by decide) (fun hc => ?_) (fun hc => ?_)
      · refine lv_iload_n hx hb dX3_of_152 rfl (lv_at hl 2 rfl) ?_
        refine lv_iconst (v := 1) hx hb dX3_of_153 (by decide) ?_
        refine lv_isub hx hb dX3_of_154 ?_
        exact hJ _ (if_pos hc).symm
      · refine lv_iload_n hx hb dX3_of_148 rfl (lv_at hl 2 rfl) ?_
        refine lv_goto (tgt := 155) hx hb dX3_of_149 (by decide) ?_
        exact hJ _ (if_neg hc).symm
    intro v2 hv
    have hf := lt_of hv hf
    refine lv_imul hx hb dX3_of_155 ?_
    refine lv_iadd hx hb dX3_of_156 ?_
    refine lv_iload_n hx hb dX3_of_157 rfl (lv_at hl 1 rfl) ?_
    refine lv_iadd hx hb dX3_of_158 ?_
    refine ma0 C hI hf dX3_of_159 (fun v3 hf => ?_)
    refine lv_goto (tgt := 166) hx hb dX3_of_160 (by decide) ?_
    exact m_iret C hI hf dX3_of_166
def fM_of (N : Nat) (x : MS) (l1 : Int32) (l2 : Int32) : Option (Int32 × MS) :=
  b2 (fM_isLink N x l1) fun v2 x1 =>
  if v2 = 0 then
    some ((-100000), x1)
  else
    if l2 = 3 then
      (rd 1725 (gA x1 0) (93 + l1)).bind fun v4 =>
      some (v4, x1)
    else if l2 = 4 then
      fM_of_b126 N x1 l1 l2
    else if l2 = 5 then
      fM_of_b126 N x1 l1 l2
    else if l2 = 6 then
      fM_of_b126 N x1 l1 l2
    else if l2 = 7 then
      fM_of_b126 N x1 l1 l2
    else if l2 = 8 then
      b2 (fM_readyOf N x1 l1) fun v11 x10 =>
      some (v11, x10)
    else if l2 = 9 then
      b2 (fM_leaveOf N x1 l1) fun v14 x13 =>
      some (v14, x13)
    else if l2 = 10 then
      b2 (fM_giveOf N x1 l1) fun v17 x16 =>
      some (v17, x16)
    else if l2 = 11 then
      b2 (fM_costOf N x1 l1) fun v20 x19 =>
      some (v20, x19)
    else if l2 = 12 then
      b2 (fM_canPay N x1 l1) fun v23 x22 =>
      lt (if v23 = 0 then 0 else 1 : Int32) fun v24 =>
      some (v24, x22)
    else if l2 = 13 then
      b2 (fM_lacksOf N x1 l1) fun v27 x26 =>
      some (v27, x26)
    else 
      fM_of_b126 N x1 l1 l2
theorem mm_of (l : Launch) (N : Nat) {w : mO} {A : Nat → Prop} : ∀ (x : MS) (l1 : Int32) (l2 : Int32) (r : Int32) (xr : MS), fM_of N x l1 l2 = some (r, xr) → mMet l yX3_of (ws_ yX3_of cX3_of 3 (some .int)) rmM_of [.ref (w.2.2.1 28), .int l1, .int l2] w A x (some (.int r)) xr := by
  intro x l1 l2 r xr hf
  refine m_start (cc := cX3_of) (by decide +kernel) rfl (Nat.le_of_ble_eq_true rfl) rfl ?_
  intro p e s m args below meth c ls H locs C hI hl
  have hx := C.1.1
  have hb := C.1.2.1
  have hown := C.1.2.2.2.1
  have hts := C.1.2.2.2.2.1
  have hE := C.2.2
  rw [fM_of] at hf
  refine lv_aload_n hx hb dX3_of_0 rfl (lv_at hl 0 rfl) ?_
  refine lv_iload_n hx hb dX3_of_1 rfl (lv_at hl 1 rfl) ?_
  refine m_calli (rest := []) C hI hf (mm_isLink l N _ _) rfl cqM_isLink ⟨rfl, rfl⟩ ⟨Nat.le_of_ble_eq_true rfl, Nat.le_of_ble_eq_true rfl⟩ rfl hl.1 rfl (Nat.le_of_ble_eq_true rfl) dX3_of_2 (fun v2 x1 H locs hI hf => ?_)
  refine b_ifne (tgt := 12) hx hb hf dX3_of_5 (by decide) (fun hf => ?_) (fun hf => ?_)
  · refine lv_iload_n hx hb dX3_of_12 rfl (lv_at hl 2 rfl) ?_
    refine b_tIn (k := 3) (j := 0) (tgt := 72) hx hb hf dX3_of_13 (by decide +kernel) rfl (by decide) (fun hf => ?_) (fun h3 hf => ?_)
    · refine lv_aload_n hx hb dX3_of_72 rfl (lv_at hl 0 rfl) ?_
      refine mg0 C hI dX3_of_73 ?_
      refine lv_bipush (v := 93) hx hb dX3_of_76 (by decide) ?_
      refine lv_iload_n hx hb dX3_of_78 rfl (lv_at hl 1 rfl) ?_
      refine lv_iadd hx hb dX3_of_79 ?_
      refine ma0 C hI hf dX3_of_80 (fun v4 hf => ?_)
      exact m_iret C hI hf dX3_of_81
    refine b_tIn (k := 4) (j := 1) (tgt := 126) hx hb hf dX3_of_13 (by decide +kernel) rfl (by decide) (fun hf => ?_) (fun h5 hf => ?_)
    · exact w_fM_of_b126 C x1 l1 l2 _ _ _ hI (lv_sub hl [0, 1, 2] rfl) hf
    refine b_tIn (k := 5) (j := 2) (tgt := 126) hx hb hf dX3_of_13 (by decide +kernel) rfl (by decide) (fun hf => ?_) (fun h6 hf => ?_)
    · exact w_fM_of_b126 C x1 l1 l2 _ _ _ hI (lv_sub hl [0, 1, 2] rfl) hf
    refine b_tIn (k := 6) (j := 3) (tgt := 126) hx hb hf dX3_of_13 (by decide +kernel) rfl (by decide) (fun hf => ?_) (fun h7 hf => ?_)
    · exact w_fM_of_b126 C x1 l1 l2 _ _ _ hI (lv_sub hl [0, 1, 2] rfl) hf
    refine b_tIn (k := 7) (j := 4) (tgt := 126) hx hb hf dX3_of_13 (by decide +kernel) rfl (by decide) (fun hf => ?_) (fun h8 hf => ?_)
    · exact w_fM_of_b126 C x1 l1 l2 _ _ _ hI (lv_sub hl [0, 1, 2] rfl) hf
    refine b_tIn (k := 8) (j := 5) (tgt := 82) hx hb hf dX3_of_13 (by decide +kernel) rfl (by decide) (fun hf => ?_) (fun h9 hf => ?_)
    · refine lv_aload_n hx hb dX3_of_82 rfl (lv_at hl 0 rfl) ?_
      refine lv_iload_n hx hb dX3_of_83 rfl (lv_at hl 1 rfl) ?_
      refine m_calli (rest := []) C hI hf (mm_readyOf l N _ _) rfl cqM_readyOf ⟨rfl, rfl⟩ ⟨Nat.le_of_ble_eq_true rfl, Nat.le_of_ble_eq_true rfl⟩ rfl hl.1 rfl (Nat.le_of_ble_eq_true rfl) dX3_of_84 (fun v11 x10 H locs hI hf => ?_)
      exact m_iret C hI hf dX3_of_87
    refine b_tIn (k := 9) (j := 6) (tgt := 88) hx hb hf dX3_of_13 (by decide +kernel) rfl (by decide) (fun hf => ?_) (fun h12 hf => ?_)
    · refine lv_aload_n hx hb dX3_of_88 rfl (lv_at hl 0 rfl) ?_
      refine lv_iload_n hx hb dX3_of_89 rfl (lv_at hl 1 rfl) ?_
      refine m_calli (rest := []) C hI hf (mm_leaveOf l N _ _) rfl cqM_leaveOf ⟨rfl, rfl⟩ ⟨Nat.le_of_ble_eq_true rfl, Nat.le_of_ble_eq_true rfl⟩ rfl hl.1 rfl (Nat.le_of_ble_eq_true rfl) dX3_of_90 (fun v14 x13 H locs hI hf => ?_)
      exact m_iret C hI hf dX3_of_93
    refine b_tIn (k := 10) (j := 7) (tgt := 94) hx hb hf dX3_of_13 (by decide +kernel) rfl (by decide) (fun hf => ?_) (fun h15 hf => ?_)
    · refine lv_aload_n hx hb dX3_of_94 rfl (lv_at hl 0 rfl) ?_
      refine lv_iload_n hx hb dX3_of_95 rfl (lv_at hl 1 rfl) ?_
      refine m_calli (rest := []) C hI hf (mm_giveOf l N _ _) rfl cqM_giveOf ⟨rfl, rfl⟩ ⟨Nat.le_of_ble_eq_true rfl, Nat.le_of_ble_eq_true rfl⟩ rfl hl.1 rfl (Nat.le_of_ble_eq_true rfl) dX3_of_96 (fun v17 x16 H locs hI hf => ?_)
      exact m_iret C hI hf dX3_of_99
    refine b_tIn (k := 11) (j := 8) (tgt := 100) hx hb hf dX3_of_13 (by decide +kernel) rfl (by decide) (fun hf => ?_) (fun h18 hf => ?_)
    · refine lv_aload_n hx hb dX3_of_100 rfl (lv_at hl 0 rfl) ?_
      refine lv_iload_n hx hb dX3_of_101 rfl (lv_at hl 1 rfl) ?_
      refine m_calli (rest := []) C hI hf (mm_costOf l N _ _) rfl cqM_costOf ⟨rfl, rfl⟩ ⟨Nat.le_of_ble_eq_true rfl, Nat.le_of_ble_eq_true rfl⟩ rfl hl.1 rfl (Nat.le_of_ble_eq_true rfl) dX3_of_102 (fun v20 x19 H locs hI hf => ?_)
      exact m_iret C hI hf dX3_of_105
    refine b_tIn (k := 12) (j := 9) (tgt := 106) hx hb hf dX3_of_13 (by decide +kernel) rfl (by decide) (fun hf => ?_) (fun h21 hf => ?_)
    · refine lv_aload_n hx hb dX3_of_106 rfl (lv_at hl 0 rfl) ?_
      refine lv_iload_n hx hb dX3_of_107 rfl (lv_at hl 1 rfl) ?_
      refine m_calli (rest := []) C hI hf (mm_canPay l N _ _) rfl cqM_canPay ⟨rfl, rfl⟩ ⟨Nat.le_of_ble_eq_true rfl, Nat.le_of_ble_eq_true rfl⟩ rfl hl.1 rfl (Nat.le_of_ble_eq_true rfl) dX3_of_108 (fun v23 x22 H locs hI hf => ?_)
      suffices hJ : ∀ v24 : Int32, (v24 = (if v23 = 0 then 0 else 1 : Int32)) → W p l e rmM_of s m args below meth c H locs 0 0 (MQ below (mQ w A (some (.int r)) xr) args s 0 0 A) (F0 m 119 ls [.int v24]) by
        refine lv_if_eq (tgt := 118) hx hb dX3_of_111 (by decide) (fun hc => ?_) (fun hc => ?_)
        · refine lv_iconst (v := 0) hx hb dX3_of_118 (by decide) ?_
          exact hJ _ (if_pos hc).symm
        · refine lv_iconst (v := 1) hx hb dX3_of_114 (by decide) ?_
          refine lv_goto (tgt := 119) hx hb dX3_of_115 (by decide) ?_
          exact hJ _ (if_neg hc).symm
      intro v24 hv
      have hf := lt_of hv hf
      exact m_iret C hI hf dX3_of_119
    refine b_tIn (k := 13) (j := 10) (tgt := 120) hx hb hf dX3_of_13 (by decide +kernel) rfl (by decide) (fun hf => ?_) (fun h25 hf => ?_)
    · refine lv_aload_n hx hb dX3_of_120 rfl (lv_at hl 0 rfl) ?_
      refine lv_iload_n hx hb dX3_of_121 rfl (lv_at hl 1 rfl) ?_
      refine m_calli (rest := []) C hI hf (mm_lacksOf l N _ _) rfl cqM_lacksOf ⟨rfl, rfl⟩ ⟨Nat.le_of_ble_eq_true rfl, Nat.le_of_ble_eq_true rfl⟩ rfl hl.1 rfl (Nat.le_of_ble_eq_true rfl) dX3_of_122 (fun v27 x26 H locs hI hf => ?_)
      exact m_iret C hI hf dX3_of_125
    have h3 : l2.toInt ≠ 3 := sw_ne h3
    have h5 : l2.toInt ≠ 4 := sw_ne h5
    have h6 : l2.toInt ≠ 5 := sw_ne h6
    have h7 : l2.toInt ≠ 6 := sw_ne h7
    have h8 : l2.toInt ≠ 7 := sw_ne h8
    have h9 : l2.toInt ≠ 8 := sw_ne h9
    have h12 : l2.toInt ≠ 9 := sw_ne h12
    have h15 : l2.toInt ≠ 10 := sw_ne h15
    have h18 : l2.toInt ≠ 11 := sw_ne h18
    have h21 : l2.toInt ≠ 12 := sw_ne h21
    have h25 : l2.toInt ≠ 13 := sw_ne h25
    refine lv_tableOut (tgt := 126) hx hb dX3_of_13 (by omega) (by decide) ?_
    exact w_fM_of_b126 C x1 l1 l2 _ _ _ hI (lv_sub hl [0, 1, 2] rfl) hf
  · refine lv_ldcw hx hb hown (hts _ q1829) dX3_of_8 ?_
    exact m_iret C hI hf dX3_of_11
/-! recordsOf(III)I -/
abbrev rmM_recordsOf : Room := { frames := 1, cells := 0, slots := 0, locals := 22 }
def fM_recordsOf_b6 (N : Nat) : Nat → MS → Int32 → Int32 → Int32 → Int32 → Int32 → Option (Int32 × MS)
  | 0, _, _, _, _, _, _ => none
  | n + 1, x, l1, l2, l3, l4, l5 =>
  if (gA x 0 92) ≤ l5 then
    some (l4, x)
  else
    (rd 1725 (gA x 0) ((209 + (2 * l5)) + 1)).bind fun v1 =>
    if v1 = l1 then
      (rd 1725 (gA x 0) (209 + (2 * l5))).bind fun v2 =>
      (fM_isIn N v2 l2 l3).bind fun v3 =>
      if v3 = 0 then
        fM_recordsOf_b6 N n x l1 l2 l3 (l4 + 0) (l5 + 1)
      else
        fM_recordsOf_b6 N n x l1 l2 l3 (l4 + 1) (l5 + 1)
    else
      fM_recordsOf_b6 N n x l1 l2 l3 (l4 + 0) (l5 + 1)
theorem w_fM_recordsOf_b6 {N : Nat} {r : Int32} {xr : MS} (C : mC w A p s m args meth c cX3_recordsOf 6 (some .int)) : ∀ (n : Nat) (x : MS) (l1 : Int32) (l2 : Int32) (l3 : Int32) (l4 : Int32) (l5 : Int32) (H : Heap) (locs : List Loc) (ls : Array Slot), mI w A x s.heap H locs → lv_has ls 6 [(0, .ref (w.2.2.1 28)), (1, .int l1), (2, .int l2), (3, .int l3), (4, .int l4), (5, .int l5)] → fM_recordsOf_b6 N n x l1 l2 l3 l4 l5 = some (r, xr) → W p l e rmM_recordsOf s m args below meth c H locs 0 0 (MQ below (mQ w A (some (.int r)) xr) args s 0 0 A) (F0 m 6 ls []) := by
  have hx := C.1.1
  have hb := C.1.2.1
  have hown := C.1.2.2.2.1
  have hts := C.1.2.2.2.2.1
  have hE := C.2.2
  intro n
  induction n with
  | zero => intro x l1 l2 l3 l4 l5 H locs ls hI hl hf; rw [fM_recordsOf_b6] at hf; cases hf
  | succ n ih =>
  intro x l1 l2 l3 l4 l5 H locs ls hI hl hf
  rw [fM_recordsOf_b6] at hf
  refine lv_iload hx hb dX3_recordsOf_6 (lv_at hl 5 rfl) ?_
  refine lv_aload_n hx hb dX3_recordsOf_8 rfl (lv_at hl 0 rfl) ?_
  refine mg0 C hI dX3_recordsOf_9 ?_
  refine lv_bipush (v := 92) hx hb dX3_recordsOf_12 (by decide) ?_
  refine mac0 C hI rc1725_92 dX3_recordsOf_14 ?_
  refine b_icge (tgt := 74) hx hb hf dX3_recordsOf_15 (by decide) (fun hf => ?_) (fun hf => ?_)
  · refine lv_iload hx hb dX3_recordsOf_74 (lv_at hl 4 rfl) ?_
    exact m_iret C hI hf dX3_recordsOf_76
  · refine lv_iload hx hb dX3_recordsOf_18 (lv_at hl 4 rfl) ?_
    refine lv_aload_n hx hb dX3_recordsOf_20 rfl (lv_at hl 0 rfl) ?_
    refine mg0 C hI dX3_recordsOf_21 ?_
    refine lv_sipush (v := 209) hx hb dX3_recordsOf_24 (by decide) ?_
    refine lv_iconst (v := 2) hx hb dX3_recordsOf_27 (by decide) ?_
    refine lv_iload hx hb dX3_recordsOf_28 (lv_at hl 5 rfl) ?_
    refine lv_imul hx hb dX3_recordsOf_30 ?_
    refine lv_iadd hx hb dX3_recordsOf_31 ?_
    refine lv_iconst (v := 1) hx hb dX3_recordsOf_32 (by decide) ?_
    refine lv_iadd hx hb dX3_recordsOf_33 ?_
    refine ma0 C hI hf dX3_recordsOf_34 (fun v1 hf => ?_)
    refine lv_iload_n hx hb dX3_recordsOf_35 rfl (lv_at hl 1 rfl) ?_
    refine b_icne (tgt := 64) hx hb hf dX3_recordsOf_36 (by decide) (fun hf => ?_) (fun hf => ?_)
    · refine lv_iconst (v := 0) hx hb dX3_recordsOf_64 (by decide) ?_
      refine lv_iadd hx hb dX3_recordsOf_65 ?_
      refine lv_istore (lv' := [(4, .int (l4 + 0)), (0, .ref (w.2.2.1 28)), (1, .int l1), (2, .int l2), (3, .int l3), (5, .int l5)]) hx hb dX3_recordsOf_66 hl (by decide) rfl (fun ls hl => ?_)
      refine lv_iinc (v := l5 + 1) (lv' := [(5, .int (l5 + 1)), (4, .int (l4 + 0)), (0, .ref (w.2.2.1 28)), (1, .int l1), (2, .int l2), (3, .int l3)]) hx hb dX3_recordsOf_68 hl (k := 5) rfl rfl (by decide) rfl (fun ls hl => ?_)
      refine lv_goto (tgt := 6) hx hb dX3_recordsOf_71 (by decide) ?_
      exact ih x l1 l2 l3 (l4 + 0) (l5 + 1) _ _ _ hI (lv_sub hl [2, 3, 4, 5, 1, 0] rfl) hf
    · refine lv_aload_n hx hb dX3_recordsOf_39 rfl (lv_at hl 0 rfl) ?_
      refine mg0 C hI dX3_recordsOf_40 ?_
      refine lv_sipush (v := 209) hx hb dX3_recordsOf_43 (by decide) ?_
      refine lv_iconst (v := 2) hx hb dX3_recordsOf_46 (by decide) ?_
      refine lv_iload hx hb dX3_recordsOf_47 (lv_at hl 5 rfl) ?_
      refine lv_imul hx hb dX3_recordsOf_49 ?_
      refine lv_iadd hx hb dX3_recordsOf_50 ?_
      refine ma0 C hI hf dX3_recordsOf_51 (fun v2 hf => ?_)
      refine lv_iload_n hx hb dX3_recordsOf_52 rfl (lv_at hl 2 rfl) ?_
      refine lv_iload_n hx hb dX3_recordsOf_53 rfl (lv_at hl 3 rfl) ?_
      refine g_calliS (rest := [.int l4]) C.1 hf (smM_isIn l N _ _ _) cqM_M_isIn ⟨rfl, rfl⟩ ⟨Nat.le_of_ble_eq_true rfl, Nat.le_of_ble_eq_true rfl⟩ rfl hl.1 rfl (Nat.le_of_ble_eq_true rfl) ⟨Nat.zero_le _, Nat.zero_le _⟩ dX3_recordsOf_54 (fun v3 hf => ?_)
      refine b_ifeq (tgt := 64) hx hb hf dX3_recordsOf_57 (by decide) (fun hf => ?_) (fun hf => ?_)
      · refine lv_iconst (v := 0) hx hb dX3_recordsOf_64 (by decide) ?_
        refine lv_iadd hx hb dX3_recordsOf_65 ?_
        refine lv_istore (lv' := [(4, .int (l4 + 0)), (0, .ref (w.2.2.1 28)), (1, .int l1), (2, .int l2), (3, .int l3), (5, .int l5)]) hx hb dX3_recordsOf_66 hl (by decide) rfl (fun ls hl => ?_)
        refine lv_iinc (v := l5 + 1) (lv' := [(5, .int (l5 + 1)), (4, .int (l4 + 0)), (0, .ref (w.2.2.1 28)), (1, .int l1), (2, .int l2), (3, .int l3)]) hx hb dX3_recordsOf_68 hl (k := 5) rfl rfl (by decide) rfl (fun ls hl => ?_)
        refine lv_goto (tgt := 6) hx hb dX3_recordsOf_71 (by decide) ?_
        exact ih x l1 l2 l3 (l4 + 0) (l5 + 1) _ _ _ hI (lv_sub hl [2, 3, 4, 5, 1, 0] rfl) hf
      · refine lv_iconst (v := 1) hx hb dX3_recordsOf_60 (by decide) ?_
        refine lv_goto (tgt := 65) hx hb dX3_recordsOf_61 (by decide) ?_
        refine lv_iadd hx hb dX3_recordsOf_65 ?_
        refine lv_istore (lv' := [(4, .int (l4 + 1)), (0, .ref (w.2.2.1 28)), (1, .int l1), (2, .int l2), (3, .int l3), (5, .int l5)]) hx hb dX3_recordsOf_66 hl (by decide) rfl (fun ls hl => ?_)
        refine lv_iinc (v := l5 + 1) (lv' := [(5, .int (l5 + 1)), (4, .int (l4 + 1)), (0, .ref (w.2.2.1 28)), (1, .int l1), (2, .int l2), (3, .int l3)]) hx hb dX3_recordsOf_68 hl (k := 5) rfl rfl (by decide) rfl (fun ls hl => ?_)
        refine lv_goto (tgt := 6) hx hb dX3_recordsOf_71 (by decide) ?_
        exact ih x l1 l2 l3 (l4 + 1) (l5 + 1) _ _ _ hI (lv_sub hl [2, 3, 4, 5, 1, 0] rfl) hf
def fM_recordsOf (N : Nat) (x : MS) (l1 : Int32) (l2 : Int32) (l3 : Int32) : Option (Int32 × MS) :=
  fM_recordsOf_b6 N N x l1 l2 l3 0 0
theorem mm_recordsOf (l : Launch) (N : Nat) {w : mO} {A : Nat → Prop} : ∀ (x : MS) (l1 : Int32) (l2 : Int32) (l3 : Int32) (r : Int32) (xr : MS), fM_recordsOf N x l1 l2 l3 = some (r, xr) → mMet l yX3_recordsOf (ws_ yX3_recordsOf cX3_recordsOf 6 (some .int)) rmM_recordsOf [.ref (w.2.2.1 28), .int l1, .int l2, .int l3] w A x (some (.int r)) xr := by
  intro x l1 l2 l3 r xr hf
  refine m_start (cc := cX3_recordsOf) (by decide +kernel) rfl (Nat.le_of_ble_eq_true rfl) rfl ?_
  intro p e s m args below meth c ls H locs C hI hl
  have hx := C.1.1
  have hb := C.1.2.1
  have hown := C.1.2.2.2.1
  have hts := C.1.2.2.2.2.1
  have hE := C.2.2
  rw [fM_recordsOf] at hf
  refine lv_iconst (v := 0) hx hb dX3_recordsOf_0 (by decide) ?_
  refine lv_istore (lv' := [(4, .int 0), (0, .ref (w.2.2.1 28)), (1, .int l1), (2, .int l2), (3, .int l3)]) hx hb dX3_recordsOf_1 hl (by decide) rfl (fun ls hl => ?_)
  refine lv_iconst (v := 0) hx hb dX3_recordsOf_3 (by decide) ?_
  refine lv_istore (lv' := [(5, .int 0), (4, .int 0), (0, .ref (w.2.2.1 28)), (1, .int l1), (2, .int l2), (3, .int l3)]) hx hb dX3_recordsOf_4 hl (by decide) rfl (fun ls hl => ?_)
  exact w_fM_recordsOf_b6 C N x l1 l2 l3 0 0 _ _ _ hI (lv_sub hl [2, 3, 4, 5, 1, 0] rfl) hf
/-! phone(II)I -/
abbrev rmM_phone : Room := { frames := 2, cells := 0, slots := 0, locals := 47 }
def fM_phone (N : Nat) (x : MS) (l1 : Int32) (l2 : Int32) : Option (Int32 × MS) :=
  b2 (fM_isLink N x l1) fun v2 x1 =>
  if v2 = 0 then
    some ((-1), x1)
  else
    (fM_isIn N l2 0 2).bind fun v3 =>
    if v3 = 0 then
      some ((-1), x1)
    else
      if l2 = 2 then
        b2 (fM_recordsOf N x1 l1 0 1000) fun v6 x5 =>
        some (v6, x5)
      else
        (rd 1725 (gA x1 0) ((105 + (2 * l1)) + l2)).bind fun v4 =>
        some (v4, x1)
theorem mm_phone (l : Launch) (N : Nat) {w : mO} {A : Nat → Prop} : ∀ (x : MS) (l1 : Int32) (l2 : Int32) (r : Int32) (xr : MS), fM_phone N x l1 l2 = some (r, xr) → mMet l yX3_phone (ws_ yX3_phone cX3_phone 3 (some .int)) rmM_phone [.ref (w.2.2.1 28), .int l1, .int l2] w A x (some (.int r)) xr := by
  intro x l1 l2 r xr hf
  refine m_start (cc := cX3_phone) (by decide +kernel) rfl (Nat.le_of_ble_eq_true rfl) rfl ?_
  intro p e s m args below meth c ls H locs C hI hl
  have hx := C.1.1
  have hb := C.1.2.1
  have hown := C.1.2.2.2.1
  have hts := C.1.2.2.2.2.1
  have hE := C.2.2
  rw [fM_phone] at hf
  refine lv_aload_n hx hb dX3_phone_0 rfl (lv_at hl 0 rfl) ?_
  refine lv_iload_n hx hb dX3_phone_1 rfl (lv_at hl 1 rfl) ?_
  refine m_calli (rest := []) C hI hf (mm_isLink l N _ _) rfl cqM_isLink ⟨rfl, rfl⟩ ⟨Nat.le_of_ble_eq_true rfl, Nat.le_of_ble_eq_true rfl⟩ rfl hl.1 rfl (Nat.le_of_ble_eq_true rfl) dX3_phone_2 (fun v2 x1 H locs hI hf => ?_)
  refine b_ifeq (tgt := 17) hx hb hf dX3_phone_5 (by decide) (fun hf => ?_) (fun hf => ?_)
  · refine lv_iconst (v := (-1)) hx hb dX3_phone_17 (by decide) ?_
    exact m_iret C hI hf dX3_phone_18
  · refine lv_iload_n hx hb dX3_phone_8 rfl (lv_at hl 2 rfl) ?_
    refine lv_iconst (v := 0) hx hb dX3_phone_9 (by decide) ?_
    refine lv_iconst (v := 2) hx hb dX3_phone_10 (by decide) ?_
    refine g_calliS (rest := []) C.1 hf (smM_isIn l N _ _ _) cqM_M_isIn ⟨rfl, rfl⟩ ⟨Nat.le_of_ble_eq_true rfl, Nat.le_of_ble_eq_true rfl⟩ rfl hl.1 rfl (Nat.le_of_ble_eq_true rfl) ⟨Nat.zero_le _, Nat.zero_le _⟩ dX3_phone_11 (fun v3 hf => ?_)
    refine b_ifne (tgt := 19) hx hb hf dX3_phone_14 (by decide) (fun hf => ?_) (fun hf => ?_)
    · refine lv_iload_n hx hb dX3_phone_19 rfl (lv_at hl 2 rfl) ?_
      refine lv_iconst (v := 2) hx hb dX3_phone_20 (by decide) ?_
      refine b_icne (tgt := 36) hx hb hf dX3_phone_21 (by decide) (fun hf => ?_) (fun hf => ?_)
      · refine lv_aload_n hx hb dX3_phone_36 rfl (lv_at hl 0 rfl) ?_
        refine mg0 C hI dX3_phone_37 ?_
        refine lv_bipush (v := 105) hx hb dX3_phone_40 (by decide) ?_
        refine lv_iconst (v := 2) hx hb dX3_phone_42 (by decide) ?_
        refine lv_iload_n hx hb dX3_phone_43 rfl (lv_at hl 1 rfl) ?_
        refine lv_imul hx hb dX3_phone_44 ?_
        refine lv_iadd hx hb dX3_phone_45 ?_
        refine lv_iload_n hx hb dX3_phone_46 rfl (lv_at hl 2 rfl) ?_
        refine lv_iadd hx hb dX3_phone_47 ?_
        refine ma0 C hI hf dX3_phone_48 (fun v4 hf => ?_)
        exact m_iret C hI hf dX3_phone_49
      · refine lv_aload_n hx hb dX3_phone_24 rfl (lv_at hl 0 rfl) ?_
        refine lv_iload_n hx hb dX3_phone_25 rfl (lv_at hl 1 rfl) ?_
        refine lv_iconst (v := 0) hx hb dX3_phone_26 (by decide) ?_
        refine lv_sipush (v := 1000) hx hb dX3_phone_27 (by decide) ?_
        refine m_calli (rest := []) C hI hf (mm_recordsOf l N _ _ _ _) rfl cqM_recordsOf ⟨rfl, rfl⟩ ⟨Nat.le_of_ble_eq_true rfl, Nat.le_of_ble_eq_true rfl⟩ rfl hl.1 rfl (Nat.le_of_ble_eq_true rfl) dX3_phone_30 (fun v6 x5 H locs hI hf => ?_)
        refine lv_goto (tgt := 49) hx hb dX3_phone_33 (by decide) ?_
        exact m_iret C hI hf dX3_phone_49
    · refine lv_iconst (v := (-1)) hx hb dX3_phone_17 (by decide) ?_
      exact m_iret C hI hf dX3_phone_18
/-! book(II)I -/
abbrev rmM_book : Room := { frames := 1, cells := 0, slots := 0, locals := 22 }
def fM_book (N : Nat) (x : MS) (l1 : Int32) (l2 : Int32) : Option (Int32 × MS) :=
  (fM_isIn N l1 0 ((gA x 0 3) - 1)).bind fun v1 =>
  if v1 = 0 then
    some ((-1), x)
  else
    (fM_isIn N l2 0 3).bind fun v2 =>
    if v2 = 0 then
      some ((-1), x)
    else
      (rd 1725 (gA x 0) ((241 + (4 * l1)) + l2)).bind fun v3 =>
      some (v3, x)
theorem mm_book (l : Launch) (N : Nat) {w : mO} {A : Nat → Prop} : ∀ (x : MS) (l1 : Int32) (l2 : Int32) (r : Int32) (xr : MS), fM_book N x l1 l2 = some (r, xr) → mMet l yX3_book (ws_ yX3_book cX3_book 3 (some .int)) rmM_book [.ref (w.2.2.1 28), .int l1, .int l2] w A x (some (.int r)) xr := by
  intro x l1 l2 r xr hf
  refine m_start (cc := cX3_book) (by decide +kernel) rfl (Nat.le_of_ble_eq_true rfl) rfl ?_
  intro p e s m args below meth c ls H locs C hI hl
  have hx := C.1.1
  have hb := C.1.2.1
  have hown := C.1.2.2.2.1
  have hts := C.1.2.2.2.2.1
  have hE := C.2.2
  rw [fM_book] at hf
  refine lv_iload_n hx hb dX3_book_0 rfl (lv_at hl 1 rfl) ?_
  refine lv_iconst (v := 0) hx hb dX3_book_1 (by decide) ?_
  refine lv_aload_n hx hb dX3_book_2 rfl (lv_at hl 0 rfl) ?_
  refine mg0 C hI dX3_book_3 ?_
  refine lv_iconst (v := 3) hx hb dX3_book_6 (by decide) ?_
  refine mac0 C hI rc1725_3 dX3_book_7 ?_
  refine lv_iconst (v := 1) hx hb dX3_book_8 (by decide) ?_
  refine lv_isub hx hb dX3_book_9 ?_
  refine g_calliS (rest := []) C.1 hf (smM_isIn l N _ _ _) cqM_M_isIn ⟨rfl, rfl⟩ ⟨Nat.le_of_ble_eq_true rfl, Nat.le_of_ble_eq_true rfl⟩ rfl hl.1 rfl (Nat.le_of_ble_eq_true rfl) ⟨Nat.zero_le _, Nat.zero_le _⟩ dX3_book_10 (fun v1 hf => ?_)
  refine b_ifeq (tgt := 42) hx hb hf dX3_book_13 (by decide) (fun hf => ?_) (fun hf => ?_)
  · refine lv_iconst (v := (-1)) hx hb dX3_book_42 (by decide) ?_
    exact m_iret C hI hf dX3_book_43
  · refine lv_iload_n hx hb dX3_book_16 rfl (lv_at hl 2 rfl) ?_
    refine lv_iconst (v := 0) hx hb dX3_book_17 (by decide) ?_
    refine lv_iconst (v := 3) hx hb dX3_book_18 (by decide) ?_
    refine g_calliS (rest := []) C.1 hf (smM_isIn l N _ _ _) cqM_M_isIn ⟨rfl, rfl⟩ ⟨Nat.le_of_ble_eq_true rfl, Nat.le_of_ble_eq_true rfl⟩ rfl hl.1 rfl (Nat.le_of_ble_eq_true rfl) ⟨Nat.zero_le _, Nat.zero_le _⟩ dX3_book_19 (fun v2 hf => ?_)
    refine b_ifeq (tgt := 42) hx hb hf dX3_book_22 (by decide) (fun hf => ?_) (fun hf => ?_)
    · refine lv_iconst (v := (-1)) hx hb dX3_book_42 (by decide) ?_
      exact m_iret C hI hf dX3_book_43
    · refine lv_aload_n hx hb dX3_book_25 rfl (lv_at hl 0 rfl) ?_
      refine mg0 C hI dX3_book_26 ?_
      refine lv_sipush (v := 241) hx hb dX3_book_29 (by decide) ?_
      refine lv_iconst (v := 4) hx hb dX3_book_32 (by decide) ?_
      refine lv_iload_n hx hb dX3_book_33 rfl (lv_at hl 1 rfl) ?_
      refine lv_imul hx hb dX3_book_34 ?_
      refine lv_iadd hx hb dX3_book_35 ?_
      refine lv_iload_n hx hb dX3_book_36 rfl (lv_at hl 2 rfl) ?_
      refine lv_iadd hx hb dX3_book_37 ?_
      refine ma0 C hI hf dX3_book_38 (fun v3 hf => ?_)
      refine lv_goto (tgt := 43) hx hb dX3_book_39 (by decide) ?_
      exact m_iret C hI hf dX3_book_43
/-! latestMoved()I -/
abbrev rmM_latestMoved : Room := { frames := 1, cells := 0, slots := 0, locals := 21 }
def fM_latestMoved_b4 (N : Nat) : Nat → MS → Int32 → Int32 → Option (Int32 × MS)
  | 0, _, _, _ => none
  | n + 1, x, l1, l2 =>
  if (gA x 0 88) ≤ l2 then
    some (l1, x)
  else
    b2 (fM_hasMoved N x l2) fun v2 x1 =>
    if v2 = 0 then
      some ((-1), x1)
    else
      (rd 1725 (gA x1 0) (76 + l2)).bind fun v3 =>
      (fM_greater N l1 v3).bind fun v4 =>
      fM_latestMoved_b4 N n x1 v4 (l2 + 1)
theorem w_fM_latestMoved_b4 {N : Nat} {r : Int32} {xr : MS} (C : mC w A p s m args meth c cX3_latestMoved 3 (some .int)) : ∀ (n : Nat) (x : MS) (l1 : Int32) (l2 : Int32) (H : Heap) (locs : List Loc) (ls : Array Slot), mI w A x s.heap H locs → lv_has ls 3 [(0, .ref (w.2.2.1 28)), (1, .int l1), (2, .int l2)] → fM_latestMoved_b4 N n x l1 l2 = some (r, xr) → W p l e rmM_latestMoved s m args below meth c H locs 0 0 (MQ below (mQ w A (some (.int r)) xr) args s 0 0 A) (F0 m 4 ls []) := by
  have hx := C.1.1
  have hb := C.1.2.1
  have hown := C.1.2.2.2.1
  have hts := C.1.2.2.2.2.1
  have hE := C.2.2
  intro n
  induction n with
  | zero => intro x l1 l2 H locs ls hI hl hf; rw [fM_latestMoved_b4] at hf; cases hf
  | succ n ih =>
  intro x l1 l2 H locs ls hI hl hf
  rw [fM_latestMoved_b4] at hf
  refine lv_iload_n hx hb dX3_latestMoved_4 rfl (lv_at hl 2 rfl) ?_
  refine lv_aload_n hx hb dX3_latestMoved_5 rfl (lv_at hl 0 rfl) ?_
  refine mg0 C hI dX3_latestMoved_6 ?_
  refine lv_bipush (v := 88) hx hb dX3_latestMoved_9 (by decide) ?_
  refine mac0 C hI rc1725_88 dX3_latestMoved_11 ?_
  refine b_icge (tgt := 45) hx hb hf dX3_latestMoved_12 (by decide) (fun hf => ?_) (fun hf => ?_)
  · refine lv_iload_n hx hb dX3_latestMoved_45 rfl (lv_at hl 1 rfl) ?_
    exact m_iret C hI hf dX3_latestMoved_46
  · refine lv_aload_n hx hb dX3_latestMoved_15 rfl (lv_at hl 0 rfl) ?_
    refine lv_iload_n hx hb dX3_latestMoved_16 rfl (lv_at hl 2 rfl) ?_
    refine m_calli (rest := []) C hI hf (mm_hasMoved l N _ _) rfl cqM_hasMoved ⟨rfl, rfl⟩ ⟨Nat.le_of_ble_eq_true rfl, Nat.le_of_ble_eq_true rfl⟩ rfl hl.1 rfl (Nat.le_of_ble_eq_true rfl) dX3_latestMoved_17 (fun v2 x1 H locs hI hf => ?_)
    refine b_ifne (tgt := 25) hx hb hf dX3_latestMoved_20 (by decide) (fun hf => ?_) (fun hf => ?_)
    · refine lv_iload_n hx hb dX3_latestMoved_25 rfl (lv_at hl 1 rfl) ?_
      refine lv_aload_n hx hb dX3_latestMoved_26 rfl (lv_at hl 0 rfl) ?_
      refine mg0 C hI dX3_latestMoved_27 ?_
      refine lv_bipush (v := 76) hx hb dX3_latestMoved_30 (by decide) ?_
      refine lv_iload_n hx hb dX3_latestMoved_32 rfl (lv_at hl 2 rfl) ?_
      refine lv_iadd hx hb dX3_latestMoved_33 ?_
      refine ma0 C hI hf dX3_latestMoved_34 (fun v3 hf => ?_)
      refine g_calliS (rest := []) C.1 hf (smM_greater l N _ _) cqM_M_greater ⟨rfl, rfl⟩ ⟨Nat.le_of_ble_eq_true rfl, Nat.le_of_ble_eq_true rfl⟩ rfl hl.1 rfl (Nat.le_of_ble_eq_true rfl) ⟨Nat.zero_le _, Nat.zero_le _⟩ dX3_latestMoved_35 (fun v4 hf => ?_)
      refine lv_istore_n (lv' := [(1, .int v4), (0, .ref (w.2.2.1 28)), (2, .int l2)]) hx hb dX3_latestMoved_38 rfl hl (by decide) rfl (fun ls hl => ?_)
      refine lv_iinc (v := l2 + 1) (lv' := [(2, .int (l2 + 1)), (1, .int v4), (0, .ref (w.2.2.1 28))]) hx hb dX3_latestMoved_39 hl (k := 2) rfl rfl (by decide) rfl (fun ls hl => ?_)
      refine lv_goto (tgt := 4) hx hb dX3_latestMoved_42 (by decide) ?_
      exact ih x1 v4 (l2 + 1) _ _ _ hI (lv_sub hl [2, 1, 0] rfl) hf
    · refine lv_iconst (v := (-1)) hx hb dX3_latestMoved_23 (by decide) ?_
      exact m_iret C hI hf dX3_latestMoved_24
def fM_latestMoved (N : Nat) (x : MS) : Option (Int32 × MS) :=
  fM_latestMoved_b4 N N x (-1) 0
theorem mm_latestMoved (l : Launch) (N : Nat) {w : mO} {A : Nat → Prop} : ∀ (x : MS) (r : Int32) (xr : MS), fM_latestMoved N x  = some (r, xr) → mMet l yX3_latestMoved (ws_ yX3_latestMoved cX3_latestMoved 3 (some .int)) rmM_latestMoved [.ref (w.2.2.1 28)] w A x (some (.int r)) xr := by
  intro x  r xr hf
  refine m_start (cc := cX3_latestMoved) (by decide +kernel) rfl (Nat.le_of_ble_eq_true rfl) rfl ?_
  intro p e s m args below meth c ls H locs C hI hl
  have hx := C.1.1
  have hb := C.1.2.1
  have hown := C.1.2.2.2.1
  have hts := C.1.2.2.2.2.1
  have hE := C.2.2
  rw [fM_latestMoved] at hf
  refine lv_iconst (v := (-1)) hx hb dX3_latestMoved_0 (by decide) ?_
  refine lv_istore_n (lv' := [(1, .int (-1)), (0, .ref (w.2.2.1 28))]) hx hb dX3_latestMoved_1 rfl hl (by decide) rfl (fun ls hl => ?_)
  refine lv_iconst (v := 0) hx hb dX3_latestMoved_2 (by decide) ?_
  refine lv_istore_n (lv' := [(2, .int 0), (1, .int (-1)), (0, .ref (w.2.2.1 28))]) hx hb dX3_latestMoved_3 rfl hl (by decide) rfl (fun ls hl => ?_)
  exact w_fM_latestMoved_b4 C N x (-1) 0 _ _ _ hI (lv_sub hl [2, 1, 0] rfl) hf
/-! movedOnes()I -/
abbrev rmM_movedOnes : Room := { frames := 1, cells := 0, slots := 0, locals := 21 }
def fM_movedOnes_b4 (N : Nat) : Nat → MS → Int32 → Int32 → Option (Int32 × MS)
  | 0, _, _, _ => none
  | n + 1, x, l1, l2 =>
  if (gA x 0 88) ≤ l2 then
    some (l1, x)
  else
    b2 (fM_hasMoved N x l2) fun v2 x1 =>
    lt (if v2 = 0 then 0 else 1 <<< (l2 &&& 31) : Int32) fun v3 =>
    fM_movedOnes_b4 N n x1 (l1 ||| v3) (l2 + 1)
theorem w_fM_movedOnes_b4 {N : Nat} {r : Int32} {xr : MS} (C : mC w A p s m args meth c cX3_movedOnes 3 (some .int)) : ∀ (n : Nat) (x : MS) (l1 : Int32) (l2 : Int32) (H : Heap) (locs : List Loc) (ls : Array Slot), mI w A x s.heap H locs → lv_has ls 3 [(0, .ref (w.2.2.1 28)), (1, .int l1), (2, .int l2)] → fM_movedOnes_b4 N n x l1 l2 = some (r, xr) → W p l e rmM_movedOnes s m args below meth c H locs 0 0 (MQ below (mQ w A (some (.int r)) xr) args s 0 0 A) (F0 m 4 ls []) := by
  have hx := C.1.1
  have hb := C.1.2.1
  have hown := C.1.2.2.2.1
  have hts := C.1.2.2.2.2.1
  have hE := C.2.2
  intro n
  induction n with
  | zero => intro x l1 l2 H locs ls hI hl hf; rw [fM_movedOnes_b4] at hf; cases hf
  | succ n ih =>
  intro x l1 l2 H locs ls hI hl hf
  rw [fM_movedOnes_b4] at hf
  refine lv_iload_n hx hb dX3_movedOnes_4 rfl (lv_at hl 2 rfl) ?_
  refine lv_aload_n hx hb dX3_movedOnes_5 rfl (lv_at hl 0 rfl) ?_
  refine mg0 C hI dX3_movedOnes_6 ?_
  refine lv_bipush (v := 88) hx hb dX3_movedOnes_9 (by decide) ?_
  refine mac0 C hI rc1725_88 dX3_movedOnes_11 ?_
  refine b_icge (tgt := 39) hx hb hf dX3_movedOnes_12 (by decide) (fun hf => ?_) (fun hf => ?_)
  · refine lv_iload_n hx hb dX3_movedOnes_39 rfl (lv_at hl 1 rfl) ?_
    exact m_iret C hI hf dX3_movedOnes_40
  · refine lv_iload_n hx hb dX3_movedOnes_15 rfl (lv_at hl 1 rfl) ?_
    refine lv_aload_n hx hb dX3_movedOnes_16 rfl (lv_at hl 0 rfl) ?_
    refine lv_iload_n hx hb dX3_movedOnes_17 rfl (lv_at hl 2 rfl) ?_
    refine m_calli (rest := [.int l1]) C hI hf (mm_hasMoved l N _ _) rfl cqM_hasMoved ⟨rfl, rfl⟩ ⟨Nat.le_of_ble_eq_true rfl, Nat.le_of_ble_eq_true rfl⟩ rfl hl.1 rfl (Nat.le_of_ble_eq_true rfl) dX3_movedOnes_18 (fun v2 x1 H locs hI hf => ?_)
    suffices hJ : ∀ v3 : Int32, (v3 = (if v2 = 0 then 0 else 1 <<< (l2 &&& 31) : Int32)) → W p l e rmM_movedOnes s m args below meth c H locs 0 0 (MQ below (mQ w A (some (.int r)) xr) args s 0 0 A) (F0 m 31 ls [.int v3, .int l1]) by
      refine lv_if_eq (tgt := 30) hx hb dX3_movedOnes_21 (by decide) (fun hc => ?_) (fun hc => ?_)
      · refine lv_iconst (v := 0) hx hb dX3_movedOnes_30 (by decide) ?_
        exact hJ _ (if_pos hc).symm
      · refine lv_iconst (v := 1) hx hb dX3_movedOnes_24 (by decide) ?_
        refine lv_iload_n hx hb dX3_movedOnes_25 rfl (lv_at hl 2 rfl) ?_
        refine lv_ishl hx hb dX3_movedOnes_26 ?_
        refine lv_goto (tgt := 31) hx hb dX3_movedOnes_27 (by decide) ?_
        exact hJ _ (if_neg hc).symm
    intro v3 hv
    have hf := lt_of hv hf
    refine lv_ior hx hb dX3_movedOnes_31 ?_
    refine lv_istore_n (lv' := [(1, .int (l1 ||| v3)), (0, .ref (w.2.2.1 28)), (2, .int l2)]) hx hb dX3_movedOnes_32 rfl hl (by decide) rfl (fun ls hl => ?_)
    refine lv_iinc (v := l2 + 1) (lv' := [(2, .int (l2 + 1)), (1, .int (l1 ||| v3)), (0, .ref (w.2.2.1 28))]) hx hb dX3_movedOnes_33 hl (k := 2) rfl rfl (by decide) rfl (fun ls hl => ?_)
    refine lv_goto (tgt := 4) hx hb dX3_movedOnes_36 (by decide) ?_
    exact ih x1 (l1 ||| v3) (l2 + 1) _ _ _ hI (lv_sub hl [2, 1, 0] rfl) hf
def fM_movedOnes (N : Nat) (x : MS) : Option (Int32 × MS) :=
  fM_movedOnes_b4 N N x 0 0
theorem mm_movedOnes (l : Launch) (N : Nat) {w : mO} {A : Nat → Prop} : ∀ (x : MS) (r : Int32) (xr : MS), fM_movedOnes N x  = some (r, xr) → mMet l yX3_movedOnes (ws_ yX3_movedOnes cX3_movedOnes 3 (some .int)) rmM_movedOnes [.ref (w.2.2.1 28)] w A x (some (.int r)) xr := by
  intro x  r xr hf
  refine m_start (cc := cX3_movedOnes) (by decide +kernel) rfl (Nat.le_of_ble_eq_true rfl) rfl ?_
  intro p e s m args below meth c ls H locs C hI hl
  have hx := C.1.1
  have hb := C.1.2.1
  have hown := C.1.2.2.2.1
  have hts := C.1.2.2.2.2.1
  have hE := C.2.2
  rw [fM_movedOnes] at hf
  refine lv_iconst (v := 0) hx hb dX3_movedOnes_0 (by decide) ?_
  refine lv_istore_n (lv' := [(1, .int 0), (0, .ref (w.2.2.1 28))]) hx hb dX3_movedOnes_1 rfl hl (by decide) rfl (fun ls hl => ?_)
  refine lv_iconst (v := 0) hx hb dX3_movedOnes_2 (by decide) ?_
  refine lv_istore_n (lv' := [(2, .int 0), (1, .int 0), (0, .ref (w.2.2.1 28))]) hx hb dX3_movedOnes_3 rfl hl (by decide) rfl (fun ls hl => ?_)
  exact w_fM_movedOnes_b4 C N x 0 0 _ _ _ hI (lv_sub hl [2, 1, 0] rfl) hf
/-! goes(II)I -/
abbrev rmM_goes : Room := { frames := 8, cells := 0, slots := 0, locals := 184 }
def fM_goes_b107 (N : Nat) : Nat → MS → Int32 → Int32 → Option (Int32 × MS)
  | 0, _, _, _ => none
  | n + 1, x, l3, l4 =>
  if 88 ≤ l4 then
    some (l3, x)
  else
    (rd 88 (gA x 3) l4).bind fun v1 =>
    (wr x 0 1725 l4 v1).bind fun x2 =>
    fM_goes_b107 N n x2 l3 (l4 + 1)
theorem w_fM_goes_b107 {N : Nat} {r : Int32} {xr : MS} (C : mC w A p s m args meth c cX3_goes 5 (some .int)) : ∀ (n : Nat) (x : MS) (l3 : Int32) (l4 : Int32) (H : Heap) (locs : List Loc) (ls : Array Slot), mI w A x s.heap H locs → lv_has ls 5 [(0, .ref (w.2.2.1 28)), (3, .int l3), (4, .int l4)] → fM_goes_b107 N n x l3 l4 = some (r, xr) → W p l e rmM_goes s m args below meth c H locs 0 0 (MQ below (mQ w A (some (.int r)) xr) args s 0 0 A) (F0 m 107 ls []) := by
  have hx := C.1.1
  have hb := C.1.2.1
  have hown := C.1.2.2.2.1
  have hts := C.1.2.2.2.2.1
  have hE := C.2.2
  intro n
  induction n with
  | zero => intro x l3 l4 H locs ls hI hl hf; rw [fM_goes_b107] at hf; cases hf
  | succ n ih =>
  intro x l3 l4 H locs ls hI hl hf
  rw [fM_goes_b107] at hf
  refine lv_iload hx hb dX3_goes_107 (lv_at hl 2 rfl) ?_
  refine lv_bipush (v := 88) hx hb dX3_goes_109 (by decide) ?_
  refine b_icge (tgt := 134) hx hb hf dX3_goes_111 (by decide) (fun hf => ?_) (fun hf => ?_)
  · refine lv_iload_n hx hb dX3_goes_134 rfl (lv_at hl 1 rfl) ?_
    exact m_iret C hI hf dX3_goes_135
  · refine lv_aload_n hx hb dX3_goes_114 rfl (lv_at hl 0 rfl) ?_
    refine mg0 C hI dX3_goes_115 ?_
    refine lv_iload hx hb dX3_goes_118 (lv_at hl 2 rfl) ?_
    refine lv_aload_n hx hb dX3_goes_120 rfl (lv_at hl 0 rfl) ?_
    refine mg3 C hI dX3_goes_121 ?_
    refine lv_iload hx hb dX3_goes_124 (lv_at hl 2 rfl) ?_
    refine ma3 C hI hf dX3_goes_126 (fun v1 hf => ?_)
    refine ms0 C hI hf dX3_goes_127 (fun x2 H locs hI hf => ?_)
    refine lv_iinc (v := l4 + 1) (lv' := [(4, .int (l4 + 1)), (0, .ref (w.2.2.1 28)), (3, .int l3)]) hx hb dX3_goes_128 hl (k := 2) rfl rfl (by decide) rfl (fun ls hl => ?_)
    refine lv_goto (tgt := 107) hx hb dX3_goes_131 (by decide) ?_
    exact ih x2 l3 (l4 + 1) _ _ _ hI (lv_sub hl [1, 2, 0] rfl) hf
def fM_goes_b55 (N : Nat) : Nat → MS → Int32 → Int32 → Int32 → Option (Int32 × MS)
  | 0, _, _, _, _ => none
  | n + 1, x, l1, l2, l3 =>
  if l1 ≤ l3 then
    if l2 = 0 then
      b2 (fM_movedOnes N x) fun v4 x3 =>
      (fM_count N v4).bind fun v5 =>
      fM_goes_b107 N N x3 v5 0
    else
      if l2 = 1 then
        b2 (fM_latestMoved N x) fun v2 x1 =>
        fM_goes_b107 N N x1 v2 0
      else
        fM_goes_b107 N N x (gA x 0 1) 0
  else
    b2 (fM_aDay N x) fun v7 x6 =>
    fM_goes_b55 N n x6 l1 l2 (l3 + 1)
theorem w_fM_goes_b55 {N : Nat} {r : Int32} {xr : MS} (C : mC w A p s m args meth c cX3_goes 5 (some .int)) : ∀ (n : Nat) (x : MS) (l1 : Int32) (l2 : Int32) (l3 : Int32) (H : Heap) (locs : List Loc) (ls : Array Slot), mI w A x s.heap H locs → lv_has ls 5 [(0, .ref (w.2.2.1 28)), (1, .int l1), (2, .int l2), (3, .int l3)] → fM_goes_b55 N n x l1 l2 l3 = some (r, xr) → W p l e rmM_goes s m args below meth c H locs 0 0 (MQ below (mQ w A (some (.int r)) xr) args s 0 0 A) (F0 m 55 ls []) := by
  have hx := C.1.1
  have hb := C.1.2.1
  have hown := C.1.2.2.2.1
  have hts := C.1.2.2.2.2.1
  have hE := C.2.2
  intro n
  induction n with
  | zero => intro x l1 l2 l3 H locs ls hI hl hf; rw [fM_goes_b55] at hf; cases hf
  | succ n ih =>
  intro x l1 l2 l3 H locs ls hI hl hf
  rw [fM_goes_b55] at hf
  refine lv_iload_n hx hb dX3_goes_55 rfl (lv_at hl 3 rfl) ?_
  refine lv_iload_n hx hb dX3_goes_56 rfl (lv_at hl 1 rfl) ?_
  refine b_icge (tgt := 71) hx hb hf dX3_goes_57 (by decide) (fun hf => ?_) (fun hf => ?_)
  · refine lv_iload_n hx hb dX3_goes_71 rfl (lv_at hl 2 rfl) ?_
    refine b_ifne (tgt := 85) hx hb hf dX3_goes_72 (by decide) (fun hf => ?_) (fun hf => ?_)
    · refine lv_iload_n hx hb dX3_goes_85 rfl (lv_at hl 2 rfl) ?_
      refine lv_iconst (v := 1) hx hb dX3_goes_86 (by decide) ?_
      refine b_icne (tgt := 97) hx hb hf dX3_goes_87 (by decide) (fun hf => ?_) (fun hf => ?_)
      · refine lv_aload_n hx hb dX3_goes_97 rfl (lv_at hl 0 rfl) ?_
        refine mg0 C hI dX3_goes_98 ?_
        refine lv_iconst (v := 1) hx hb dX3_goes_101 (by decide) ?_
        refine mac0 C hI rc1725_1 dX3_goes_102 ?_
        refine lv_istore_n (lv' := [(3, .int (gA x 0 1)), (0, .ref (w.2.2.1 28)), (1, .int l1), (2, .int l2)]) hx hb dX3_goes_103 rfl hl (by decide) rfl (fun ls hl => ?_)
        refine lv_iconst (v := 0) hx hb dX3_goes_104 (by decide) ?_
        refine lv_istore (lv' := [(4, .int 0), (3, .int (gA x 0 1)), (0, .ref (w.2.2.1 28)), (1, .int l1), (2, .int l2)]) hx hb dX3_goes_105 hl (by decide) rfl (fun ls hl => ?_)
        exact w_fM_goes_b107 C N x (gA x 0 1) 0 _ _ _ hI (lv_sub hl [2, 1, 0] rfl) hf
      · refine lv_aload_n hx hb dX3_goes_90 rfl (lv_at hl 0 rfl) ?_
        refine m_calli (rest := []) C hI hf (mm_latestMoved l N _) rfl cqM_latestMoved ⟨rfl, rfl⟩ ⟨Nat.le_of_ble_eq_true rfl, Nat.le_of_ble_eq_true rfl⟩ rfl hl.1 rfl (Nat.le_of_ble_eq_true rfl) dX3_goes_91 (fun v2 x1 H locs hI hf => ?_)
        refine lv_goto (tgt := 103) hx hb dX3_goes_94 (by decide) ?_
        refine lv_istore_n (lv' := [(3, .int v2), (0, .ref (w.2.2.1 28)), (1, .int l1), (2, .int l2)]) hx hb dX3_goes_103 rfl hl (by decide) rfl (fun ls hl => ?_)
        refine lv_iconst (v := 0) hx hb dX3_goes_104 (by decide) ?_
        refine lv_istore (lv' := [(4, .int 0), (3, .int v2), (0, .ref (w.2.2.1 28)), (1, .int l1), (2, .int l2)]) hx hb dX3_goes_105 hl (by decide) rfl (fun ls hl => ?_)
        exact w_fM_goes_b107 C N x1 v2 0 _ _ _ hI (lv_sub hl [2, 1, 0] rfl) hf
    · refine lv_aload_n hx hb dX3_goes_75 rfl (lv_at hl 0 rfl) ?_
      refine m_calli (rest := []) C hI hf (mm_movedOnes l N _) rfl cqM_movedOnes ⟨rfl, rfl⟩ ⟨Nat.le_of_ble_eq_true rfl, Nat.le_of_ble_eq_true rfl⟩ rfl hl.1 rfl (Nat.le_of_ble_eq_true rfl) dX3_goes_76 (fun v4 x3 H locs hI hf => ?_)
      refine g_calliS (rest := []) C.1 hf (smM_count l N _) cqM_M_count ⟨rfl, rfl⟩ ⟨Nat.le_of_ble_eq_true rfl, Nat.le_of_ble_eq_true rfl⟩ rfl hl.1 rfl (Nat.le_of_ble_eq_true rfl) ⟨Nat.zero_le _, Nat.zero_le _⟩ dX3_goes_79 (fun v5 hf => ?_)
      refine lv_goto (tgt := 103) hx hb dX3_goes_82 (by decide) ?_
      refine lv_istore_n (lv' := [(3, .int v5), (0, .ref (w.2.2.1 28)), (1, .int l1), (2, .int l2)]) hx hb dX3_goes_103 rfl hl (by decide) rfl (fun ls hl => ?_)
      refine lv_iconst (v := 0) hx hb dX3_goes_104 (by decide) ?_
      refine lv_istore (lv' := [(4, .int 0), (3, .int v5), (0, .ref (w.2.2.1 28)), (1, .int l1), (2, .int l2)]) hx hb dX3_goes_105 hl (by decide) rfl (fun ls hl => ?_)
      exact w_fM_goes_b107 C N x3 v5 0 _ _ _ hI (lv_sub hl [2, 1, 0] rfl) hf
  · refine lv_aload_n hx hb dX3_goes_60 rfl (lv_at hl 0 rfl) ?_
    refine m_calli (rest := []) C hI hf (mm_aDay l N _) rfl cqM_aDay ⟨rfl, rfl⟩ ⟨Nat.le_of_ble_eq_true rfl, Nat.le_of_ble_eq_true rfl⟩ rfl hl.1 rfl (Nat.le_of_ble_eq_true rfl) dX3_goes_61 (fun v7 x6 H locs hI hf => ?_)
    refine lv_pop hx hb dX3_goes_64 rfl ?_
    refine lv_iinc (v := l3 + 1) (lv' := [(3, .int (l3 + 1)), (0, .ref (w.2.2.1 28)), (1, .int l1), (2, .int l2)]) hx hb dX3_goes_65 hl (k := 3) rfl rfl (by decide) rfl (fun ls hl => ?_)
    refine lv_goto (tgt := 55) hx hb dX3_goes_68 (by decide) ?_
    exact ih x6 l1 l2 (l3 + 1) _ _ _ hI (lv_sub hl [1, 2, 3, 0] rfl) hf
def fM_goes_b24 (N : Nat) : Nat → MS → Int32 → Int32 → Int32 → Option (Int32 × MS)
  | 0, _, _, _, _ => none
  | n + 1, x, l1, l2, l3 =>
  if 88 ≤ l3 then
    fM_goes_b55 N N (sS x 26 0) l1 l2 0
  else
    (rd 1725 (gA x 0) l3).bind fun v1 =>
    (wr x 3 88 l3 v1).bind fun x2 =>
    fM_goes_b24 N n x2 l1 l2 (l3 + 1)
theorem w_fM_goes_b24 {N : Nat} {r : Int32} {xr : MS} (C : mC w A p s m args meth c cX3_goes 5 (some .int)) : ∀ (n : Nat) (x : MS) (l1 : Int32) (l2 : Int32) (l3 : Int32) (H : Heap) (locs : List Loc) (ls : Array Slot), mI w A x s.heap H locs → lv_has ls 5 [(0, .ref (w.2.2.1 28)), (1, .int l1), (2, .int l2), (3, .int l3)] → fM_goes_b24 N n x l1 l2 l3 = some (r, xr) → W p l e rmM_goes s m args below meth c H locs 0 0 (MQ below (mQ w A (some (.int r)) xr) args s 0 0 A) (F0 m 24 ls []) := by
  have hx := C.1.1
  have hb := C.1.2.1
  have hown := C.1.2.2.2.1
  have hts := C.1.2.2.2.2.1
  have hE := C.2.2
  intro n
  induction n with
  | zero => intro x l1 l2 l3 H locs ls hI hl hf; rw [fM_goes_b24] at hf; cases hf
  | succ n ih =>
  intro x l1 l2 l3 H locs ls hI hl hf
  rw [fM_goes_b24] at hf
  refine lv_iload_n hx hb dX3_goes_24 rfl (lv_at hl 3 rfl) ?_
  refine lv_bipush (v := 88) hx hb dX3_goes_25 (by decide) ?_
  refine b_icge (tgt := 48) hx hb hf dX3_goes_27 (by decide) (fun hf => ?_) (fun hf => ?_)
  · refine lv_aload_n hx hb dX3_goes_48 rfl (lv_at hl 0 rfl) ?_
    refine lv_iconst (v := 0) hx hb dX3_goes_49 (by decide) ?_
    refine mp26 C hI rfl rfl dX3_goes_50 (fun H locs hI => ?_)
    refine lv_iconst (v := 0) hx hb dX3_goes_53 (by decide) ?_
    refine lv_istore_n (lv' := [(3, .int 0), (0, .ref (w.2.2.1 28)), (1, .int l1), (2, .int l2)]) hx hb dX3_goes_54 rfl hl (by decide) rfl (fun ls hl => ?_)
    exact w_fM_goes_b55 C N (sS x 26 0) l1 l2 0 _ _ _ hI (lv_sub hl [1, 2, 3, 0] rfl) hf
  · refine lv_aload_n hx hb dX3_goes_30 rfl (lv_at hl 0 rfl) ?_
    refine mg3 C hI dX3_goes_31 ?_
    refine lv_iload_n hx hb dX3_goes_34 rfl (lv_at hl 3 rfl) ?_
    refine lv_aload_n hx hb dX3_goes_35 rfl (lv_at hl 0 rfl) ?_
    refine mg0 C hI dX3_goes_36 ?_
    refine lv_iload_n hx hb dX3_goes_39 rfl (lv_at hl 3 rfl) ?_
    refine ma0 C hI hf dX3_goes_40 (fun v1 hf => ?_)
    refine ms3 C hI hf dX3_goes_41 (fun x2 H locs hI hf => ?_)
    refine lv_iinc (v := l3 + 1) (lv' := [(3, .int (l3 + 1)), (0, .ref (w.2.2.1 28)), (1, .int l1), (2, .int l2)]) hx hb dX3_goes_42 hl (k := 3) rfl rfl (by decide) rfl (fun ls hl => ?_)
    refine lv_goto (tgt := 24) hx hb dX3_goes_45 (by decide) ?_
    exact ih x2 l1 l2 (l3 + 1) _ _ _ hI (lv_sub hl [1, 2, 3, 0] rfl) hf
def fM_goes (N : Nat) (x : MS) (l1 : Int32) (l2 : Int32) : Option (Int32 × MS) :=
  (fM_isIn N l1 1 99).bind fun v1 =>
  if v1 = 0 then
    some ((-2), x)
  else
    (fM_isIn N l2 0 2).bind fun v2 =>
    if v2 = 0 then
      some ((-2), x)
    else
      fM_goes_b24 N N x l1 l2 0
theorem mm_goes (l : Launch) (N : Nat) {w : mO} {A : Nat → Prop} : ∀ (x : MS) (l1 : Int32) (l2 : Int32) (r : Int32) (xr : MS), fM_goes N x l1 l2 = some (r, xr) → mMet l yX3_goes (ws_ yX3_goes cX3_goes 5 (some .int)) rmM_goes [.ref (w.2.2.1 28), .int l1, .int l2] w A x (some (.int r)) xr := by
  intro x l1 l2 r xr hf
  refine m_start (cc := cX3_goes) (by decide +kernel) rfl (Nat.le_of_ble_eq_true rfl) rfl ?_
  intro p e s m args below meth c ls H locs C hI hl
  have hx := C.1.1
  have hb := C.1.2.1
  have hown := C.1.2.2.2.1
  have hts := C.1.2.2.2.2.1
  have hE := C.2.2
  rw [fM_goes] at hf
  refine lv_iload_n hx hb dX3_goes_0 rfl (lv_at hl 1 rfl) ?_
  refine lv_iconst (v := 1) hx hb dX3_goes_1 (by decide) ?_
  refine lv_bipush (v := 99) hx hb dX3_goes_2 (by decide) ?_
  refine g_calliS (rest := []) C.1 hf (smM_isIn l N _ _ _) cqM_M_isIn ⟨rfl, rfl⟩ ⟨Nat.le_of_ble_eq_true rfl, Nat.le_of_ble_eq_true rfl⟩ rfl hl.1 rfl (Nat.le_of_ble_eq_true rfl) ⟨Nat.zero_le _, Nat.zero_le _⟩ dX3_goes_4 (fun v1 hf => ?_)
  refine b_ifeq (tgt := 19) hx hb hf dX3_goes_7 (by decide) (fun hf => ?_) (fun hf => ?_)
  · refine lv_bipush (v := (-2)) hx hb dX3_goes_19 (by decide) ?_
    exact m_iret C hI hf dX3_goes_21
  · refine lv_iload_n hx hb dX3_goes_10 rfl (lv_at hl 2 rfl) ?_
    refine lv_iconst (v := 0) hx hb dX3_goes_11 (by decide) ?_
    refine lv_iconst (v := 2) hx hb dX3_goes_12 (by decide) ?_
    refine g_calliS (rest := []) C.1 hf (smM_isIn l N _ _ _) cqM_M_isIn ⟨rfl, rfl⟩ ⟨Nat.le_of_ble_eq_true rfl, Nat.le_of_ble_eq_true rfl⟩ rfl hl.1 rfl (Nat.le_of_ble_eq_true rfl) ⟨Nat.zero_le _, Nat.zero_le _⟩ dX3_goes_13 (fun v2 hf => ?_)
    refine b_ifne (tgt := 22) hx hb hf dX3_goes_16 (by decide) (fun hf => ?_) (fun hf => ?_)
    · refine lv_iconst (v := 0) hx hb dX3_goes_22 (by decide) ?_
      refine lv_istore_n (lv' := [(3, .int 0), (0, .ref (w.2.2.1 28)), (1, .int l1), (2, .int l2)]) hx hb dX3_goes_23 rfl hl (by decide) rfl (fun ls hl => ?_)
      exact w_fM_goes_b24 C N x l1 l2 0 _ _ _ hI (lv_sub hl [1, 2, 3, 0] rfl) hf
    · refine lv_bipush (v := (-2)) hx hb dX3_goes_19 (by decide) ?_
      exact m_iret C hI hf dX3_goes_21
/-! readyBy(II)J -/
abbrev rmM_readyBy : Room := { frames := 5, cells := 0, slots := 0, locals := 116 }
def fM_readyBy (N : Nat) (x : MS) (l1 : Int32) (l2 : Int32) : Option (Int64 × MS) :=
  b2 (fM_isOut N x l1) fun v2 x1 =>
  if v2 = 0 then
    b2 (fM_isReady N x1 l1) fun v4 x3 =>
    if v4 = 0 then
      b2 (fM_readyOf N x3 l1) fun v6 x5 =>
      (fM_sureBy N v6 l2).bind fun v7 =>
      some (v7, x5)
    else
      some (1000000, x3)
  else
    some (0, x1)
theorem mm_readyBy (l : Launch) (N : Nat) {w : mO} {A : Nat → Prop} : ∀ (x : MS) (l1 : Int32) (l2 : Int32) (r : Int64) (xr : MS), fM_readyBy N x l1 l2 = some (r, xr) → mMet l yX3_readyBy (ws_ yX3_readyBy cX3_readyBy 3 (some .long)) rmM_readyBy [.ref (w.2.2.1 28), .int l1, .int l2] w A x (some (.long r)) xr := by
  intro x l1 l2 r xr hf
  refine m_start (cc := cX3_readyBy) (by decide +kernel) rfl (Nat.le_of_ble_eq_true rfl) rfl ?_
  intro p e s m args below meth c ls H locs C hI hl
  have hx := C.1.1
  have hb := C.1.2.1
  have hown := C.1.2.2.2.1
  have hts := C.1.2.2.2.2.1
  have hE := C.2.2
  rw [fM_readyBy] at hf
  refine lv_aload_n hx hb dX3_readyBy_0 rfl (lv_at hl 0 rfl) ?_
  refine lv_iload_n hx hb dX3_readyBy_1 rfl (lv_at hl 1 rfl) ?_
  refine m_calli (rest := []) C hI hf (mm_isOut l N _ _) rfl cqM_isOut ⟨rfl, rfl⟩ ⟨Nat.le_of_ble_eq_true rfl, Nat.le_of_ble_eq_true rfl⟩ rfl hl.1 rfl (Nat.le_of_ble_eq_true rfl) dX3_readyBy_2 (fun v2 x1 H locs hI hf => ?_)
  refine b_ifeq (tgt := 12) hx hb hf dX3_readyBy_5 (by decide) (fun hf => ?_) (fun hf => ?_)
  · refine lv_aload_n hx hb dX3_readyBy_12 rfl (lv_at hl 0 rfl) ?_
    refine lv_iload_n hx hb dX3_readyBy_13 rfl (lv_at hl 1 rfl) ?_
    refine m_calli (rest := []) C hI hf (mm_isReady l N _ _) rfl cqM_isReady ⟨rfl, rfl⟩ ⟨Nat.le_of_ble_eq_true rfl, Nat.le_of_ble_eq_true rfl⟩ rfl hl.1 rfl (Nat.le_of_ble_eq_true rfl) dX3_readyBy_14 (fun v4 x3 H locs hI hf => ?_)
    refine b_ifeq (tgt := 26) hx hb hf dX3_readyBy_17 (by decide) (fun hf => ?_) (fun hf => ?_)
    · refine lv_aload_n hx hb dX3_readyBy_26 rfl (lv_at hl 0 rfl) ?_
      refine lv_iload_n hx hb dX3_readyBy_27 rfl (lv_at hl 1 rfl) ?_
      refine m_calli (rest := []) C hI hf (mm_readyOf l N _ _) rfl cqM_readyOf ⟨rfl, rfl⟩ ⟨Nat.le_of_ble_eq_true rfl, Nat.le_of_ble_eq_true rfl⟩ rfl hl.1 rfl (Nat.le_of_ble_eq_true rfl) dX3_readyBy_28 (fun v6 x5 H locs hI hf => ?_)
      refine lv_iload_n hx hb dX3_readyBy_31 rfl (lv_at hl 2 rfl) ?_
      refine g_calllS (rest := []) C.1 hf (smM_sureBy l N _ _) cqM_M_sureBy ⟨rfl, rfl⟩ ⟨Nat.le_of_ble_eq_true rfl, Nat.le_of_ble_eq_true rfl⟩ rfl hl.1 rfl (Nat.le_of_ble_eq_true rfl) ⟨Nat.zero_le _, Nat.zero_le _⟩ dX3_readyBy_32 (fun v7 hf => ?_)
      exact m_lret C hI hf dX3_readyBy_35
    · refine lv_ldc2 hx hb hown (hts _ q1865) dX3_readyBy_20 ?_
      refine lv_goto (tgt := 35) hx hb dX3_readyBy_23 (by decide) ?_
      exact m_lret C hI hf dX3_readyBy_35
  · refine lv_lconst (v := 0) hx hb dX3_readyBy_8 rfl ?_
    refine lv_goto (tgt := 35) hx hb dX3_readyBy_9 (by decide) ?_
    exact m_lret C hI hf dX3_readyBy_35
/-! allBy(III)J -/
abbrev rmM_allBy : Room := { frames := 6, cells := 0, slots := 0, locals := 138 }
def fM_allBy_b32 (N : Nat) (k8 : MS → Int32 → Int32 → Int64 → Int32 → Option (Int64 × MS)) (x : MS) (l2 : Int32) (l3 : Int32) (l4 : Int64) (l6 : Int32) : Option (Int64 × MS) :=
  b2 (fM_readyBy N x l6 l3) fun v2 x1 =>
  (dvL (l4 * v2) 1000000).bind fun v3 =>
  k8 x1 l2 l3 v3 (l6 + 1)
theorem w_fM_allBy_b32 {N : Nat} {r : Int64} {xr : MS} {k8 : MS → Int32 → Int32 → Int64 → Int32 → Option (Int64 × MS)} (C : mC w A p s m args meth c cX3_allBy 7 (some .long)) (hk8 : ∀ (x : MS) (l2 : Int32) (l3 : Int32) (l4 : Int64) (l6 : Int32) (H : Heap) (locs : List Loc) (ls : Array Slot), mI w A x s.heap H locs → lv_has ls 7 [(0, .ref (w.2.2.1 28)), (2, .int l2), (3, .int l3), (4, .long l4), (6, .int l6)] → k8 x l2 l3 l4 l6 = some (r, xr) → W p l e rmM_allBy s m args below meth c H locs 0 0 (MQ below (mQ w A (some (.long r)) xr) args s 0 0 A) (F0 m 8 ls [])) : ∀ (x : MS) (l2 : Int32) (l3 : Int32) (l4 : Int64) (l6 : Int32) (H : Heap) (locs : List Loc) (ls : Array Slot), mI w A x s.heap H locs → lv_has ls 7 [(0, .ref (w.2.2.1 28)), (2, .int l2), (3, .int l3), (4, .long l4), (6, .int l6)] → fM_allBy_b32 N k8 x l2 l3 l4 l6 = some (r, xr) → W p l e rmM_allBy s m args below meth c H locs 0 0 (MQ below (mQ w A (some (.long r)) xr) args s 0 0 A) (F0 m 32 ls []) := by
  have hx := C.1.1
  have hb := C.1.2.1
  have hown := C.1.2.2.2.1
  have hts := C.1.2.2.2.2.1
  have hE := C.2.2
  intro x l2 l3 l4 l6 H locs ls hI hl hf
  rw [fM_allBy_b32] at hf
  refine lv_lload hx hb dX3_allBy_32 (lv_at hl 3 rfl) ?_
  refine lv_aload_n hx hb dX3_allBy_34 rfl (lv_at hl 0 rfl) ?_
  refine lv_iload hx hb dX3_allBy_35 (lv_at hl 4 rfl) ?_
  refine lv_iload_n hx hb dX3_allBy_37 rfl (lv_at hl 2 rfl) ?_
  refine m_calll (rest := [.long l4]) C hI hf (mm_readyBy l N _ _ _) rfl cqM_readyBy ⟨rfl, rfl⟩ ⟨Nat.le_of_ble_eq_true rfl, Nat.le_of_ble_eq_true rfl⟩ rfl hl.1 rfl (Nat.le_of_ble_eq_true rfl) dX3_allBy_38 (fun v2 x1 H locs hI hf => ?_)
  refine lv_lmul hx hb dX3_allBy_41 ?_
  refine lv_ldc2 hx hb hown (hts _ q1865) dX3_allBy_42 ?_
  refine b_ldiv hx hb hf dX3_allBy_45 (fun v3 hf => ?_)
  refine lv_lstore (lv' := [(4, .long v3), (0, .ref (w.2.2.1 28)), (2, .int l2), (3, .int l3), (6, .int l6)]) hx hb dX3_allBy_46 hl (by decide) rfl (fun ls hl => ?_)
  refine lv_iinc (v := l6 + 1) (lv' := [(6, .int (l6 + 1)), (4, .long v3), (0, .ref (w.2.2.1 28)), (2, .int l2), (3, .int l3)]) hx hb dX3_allBy_48 hl (k := 4) rfl rfl (by decide) rfl (fun ls hl => ?_)
  refine lv_goto (tgt := 8) hx hb dX3_allBy_51 (by decide) ?_
  exact hk8 x1 l2 l3 v3 (l6 + 1) _ _ _ hI (lv_sub hl [2, 3, 4, 1, 0] rfl) hf
def fM_allBy_b8 (N : Nat) : Nat → MS → Int32 → Int32 → Int64 → Int32 → Option (Int64 × MS)
  | 0, _, _, _, _, _ => none
  | n + 1, x, l2, l3, l4, l6 =>
  if l2 < l6 then
    some (l4, x)
  else
    b2 (fM_isReady N x l6) fun v2 x1 =>
    if v2 = 0 then
      fM_allBy_b32 N (fM_allBy_b8 N n) x1 l2 l3 l4 l6
    else
      b2 (fM_isOut N x1 l6) fun v4 x3 =>
      if v4 = 0 then
        fM_allBy_b8 N n x3 l2 l3 l4 (l6 + 1)
      else
        fM_allBy_b32 N (fM_allBy_b8 N n) x3 l2 l3 l4 l6
theorem w_fM_allBy_b8 {N : Nat} {r : Int64} {xr : MS} (C : mC w A p s m args meth c cX3_allBy 7 (some .long)) : ∀ (n : Nat) (x : MS) (l2 : Int32) (l3 : Int32) (l4 : Int64) (l6 : Int32) (H : Heap) (locs : List Loc) (ls : Array Slot), mI w A x s.heap H locs → lv_has ls 7 [(0, .ref (w.2.2.1 28)), (2, .int l2), (3, .int l3), (4, .long l4), (6, .int l6)] → fM_allBy_b8 N n x l2 l3 l4 l6 = some (r, xr) → W p l e rmM_allBy s m args below meth c H locs 0 0 (MQ below (mQ w A (some (.long r)) xr) args s 0 0 A) (F0 m 8 ls []) := by
  have hx := C.1.1
  have hb := C.1.2.1
  have hown := C.1.2.2.2.1
  have hts := C.1.2.2.2.2.1
  have hE := C.2.2
  intro n
  induction n with
  | zero => intro x l2 l3 l4 l6 H locs ls hI hl hf; rw [fM_allBy_b8] at hf; cases hf
  | succ n ih =>
  intro x l2 l3 l4 l6 H locs ls hI hl hf
  rw [fM_allBy_b8] at hf
  refine lv_iload hx hb dX3_allBy_8 (lv_at hl 4 rfl) ?_
  refine lv_iload_n hx hb dX3_allBy_10 rfl (lv_at hl 1 rfl) ?_
  refine b_icgt (tgt := 54) hx hb hf dX3_allBy_11 (by decide) (fun hf => ?_) (fun hf => ?_)
  · refine lv_lload hx hb dX3_allBy_54 (lv_at hl 3 rfl) ?_
    exact m_lret C hI hf dX3_allBy_56
  · refine lv_aload_n hx hb dX3_allBy_14 rfl (lv_at hl 0 rfl) ?_
    refine lv_iload hx hb dX3_allBy_15 (lv_at hl 4 rfl) ?_
    refine m_calli (rest := []) C hI hf (mm_isReady l N _ _) rfl cqM_isReady ⟨rfl, rfl⟩ ⟨Nat.le_of_ble_eq_true rfl, Nat.le_of_ble_eq_true rfl⟩ rfl hl.1 rfl (Nat.le_of_ble_eq_true rfl) dX3_allBy_17 (fun v2 x1 H locs hI hf => ?_)
    refine b_ifeq (tgt := 32) hx hb hf dX3_allBy_20 (by decide) (fun hf => ?_) (fun hf => ?_)
    · exact w_fM_allBy_b32 C ih x1 l2 l3 l4 l6 _ _ _ hI (lv_sub hl [0, 1, 2, 3, 4] rfl) hf
    · refine lv_aload_n hx hb dX3_allBy_23 rfl (lv_at hl 0 rfl) ?_
      refine lv_iload hx hb dX3_allBy_24 (lv_at hl 4 rfl) ?_
      refine m_calli (rest := []) C hI hf (mm_isOut l N _ _) rfl cqM_isOut ⟨rfl, rfl⟩ ⟨Nat.le_of_ble_eq_true rfl, Nat.le_of_ble_eq_true rfl⟩ rfl hl.1 rfl (Nat.le_of_ble_eq_true rfl) dX3_allBy_26 (fun v4 x3 H locs hI hf => ?_)
      refine b_ifeq (tgt := 48) hx hb hf dX3_allBy_29 (by decide) (fun hf => ?_) (fun hf => ?_)
      · refine lv_iinc (v := l6 + 1) (lv' := [(6, .int (l6 + 1)), (0, .ref (w.2.2.1 28)), (2, .int l2), (3, .int l3), (4, .long l4)]) hx hb dX3_allBy_48 hl (k := 4) rfl rfl (by decide) rfl (fun ls hl => ?_)
        refine lv_goto (tgt := 8) hx hb dX3_allBy_51 (by decide) ?_
        exact ih x3 l2 l3 l4 (l6 + 1) _ _ _ hI (lv_sub hl [1, 2, 3, 4, 0] rfl) hf
      · exact w_fM_allBy_b32 C ih x3 l2 l3 l4 l6 _ _ _ hI (lv_sub hl [0, 1, 2, 3, 4] rfl) hf
def fM_allBy (N : Nat) (x : MS) (l1 : Int32) (l2 : Int32) (l3 : Int32) : Option (Int64 × MS) :=
  fM_allBy_b8 N N x l2 l3 1000000 l1
theorem mm_allBy (l : Launch) (N : Nat) {w : mO} {A : Nat → Prop} : ∀ (x : MS) (l1 : Int32) (l2 : Int32) (l3 : Int32) (r : Int64) (xr : MS), fM_allBy N x l1 l2 l3 = some (r, xr) → mMet l yX3_allBy (ws_ yX3_allBy cX3_allBy 7 (some .long)) rmM_allBy [.ref (w.2.2.1 28), .int l1, .int l2, .int l3] w A x (some (.long r)) xr := by
  intro x l1 l2 l3 r xr hf
  refine m_start (cc := cX3_allBy) (by decide +kernel) rfl (Nat.le_of_ble_eq_true rfl) rfl ?_
  intro p e s m args below meth c ls H locs C hI hl
  have hx := C.1.1
  have hb := C.1.2.1
  have hown := C.1.2.2.2.1
  have hts := C.1.2.2.2.2.1
  have hE := C.2.2
  rw [fM_allBy] at hf
  refine lv_ldc2 hx hb hown (hts _ q1865) dX3_allBy_0 ?_
  refine lv_lstore (lv' := [(4, .long 1000000), (0, .ref (w.2.2.1 28)), (1, .int l1), (2, .int l2), (3, .int l3)]) hx hb dX3_allBy_3 hl (by decide) rfl (fun ls hl => ?_)
  refine lv_iload_n hx hb dX3_allBy_5 rfl (lv_at hl 2 rfl) ?_
  refine lv_istore (lv' := [(6, .int l1), (4, .long 1000000), (0, .ref (w.2.2.1 28)), (1, .int l1), (2, .int l2), (3, .int l3)]) hx hb dX3_allBy_6 hl (by decide) rfl (fun ls hl => ?_)
  exact w_fM_allBy_b8 C N x l2 l3 1000000 l1 _ _ _ hI (lv_sub hl [2, 4, 5, 1, 0] rfl) hf
/-! odds(I)I -/
abbrev rmM_odds : Room := { frames := 7, cells := 0, slots := 0, locals := 164 }
def fM_odds (N : Nat) (x : MS) (l1 : Int32) : Option (Int32 × MS) :=
  (fM_isIn N l1 1 60).bind fun v1 =>
  if v1 = 0 then
    some ((-1), x)
  else
    b2 (fM_allBy N x 0 ((gA x 0 88) - 1) l1) fun v3 x2 =>
    some (v3.toInt32, x2)
theorem mm_odds (l : Launch) (N : Nat) {w : mO} {A : Nat → Prop} : ∀ (x : MS) (l1 : Int32) (r : Int32) (xr : MS), fM_odds N x l1 = some (r, xr) → mMet l yX3_odds (ws_ yX3_odds cX3_odds 2 (some .int)) rmM_odds [.ref (w.2.2.1 28), .int l1] w A x (some (.int r)) xr := by
  intro x l1 r xr hf
  refine m_start (cc := cX3_odds) (by decide +kernel) rfl (Nat.le_of_ble_eq_true rfl) rfl ?_
  intro p e s m args below meth c ls H locs C hI hl
  have hx := C.1.1
  have hb := C.1.2.1
  have hown := C.1.2.2.2.1
  have hts := C.1.2.2.2.2.1
  have hE := C.2.2
  rw [fM_odds] at hf
  refine lv_iload_n hx hb dX3_odds_0 rfl (lv_at hl 1 rfl) ?_
  refine lv_iconst (v := 1) hx hb dX3_odds_1 (by decide) ?_
  refine lv_bipush (v := 60) hx hb dX3_odds_2 (by decide) ?_
  refine g_calliS (rest := []) C.1 hf (smM_isIn l N _ _ _) cqM_M_isIn ⟨rfl, rfl⟩ ⟨Nat.le_of_ble_eq_true rfl, Nat.le_of_ble_eq_true rfl⟩ rfl hl.1 rfl (Nat.le_of_ble_eq_true rfl) ⟨Nat.zero_le _, Nat.zero_le _⟩ dX3_odds_4 (fun v1 hf => ?_)
  refine b_ifeq (tgt := 29) hx hb hf dX3_odds_7 (by decide) (fun hf => ?_) (fun hf => ?_)
  · refine lv_iconst (v := (-1)) hx hb dX3_odds_29 (by decide) ?_
    exact m_iret C hI hf dX3_odds_30
  · refine lv_aload_n hx hb dX3_odds_10 rfl (lv_at hl 0 rfl) ?_
    refine lv_iconst (v := 0) hx hb dX3_odds_11 (by decide) ?_
    refine lv_aload_n hx hb dX3_odds_12 rfl (lv_at hl 0 rfl) ?_
    refine mg0 C hI dX3_odds_13 ?_
    refine lv_bipush (v := 88) hx hb dX3_odds_16 (by decide) ?_
    refine mac0 C hI rc1725_88 dX3_odds_18 ?_
    refine lv_iconst (v := 1) hx hb dX3_odds_19 (by decide) ?_
    refine lv_isub hx hb dX3_odds_20 ?_
    refine lv_iload_n hx hb dX3_odds_21 rfl (lv_at hl 1 rfl) ?_
    refine m_calll (rest := []) C hI hf (mm_allBy l N _ _ _ _) rfl cqM_allBy ⟨rfl, rfl⟩ ⟨Nat.le_of_ble_eq_true rfl, Nat.le_of_ble_eq_true rfl⟩ rfl hl.1 rfl (Nat.le_of_ble_eq_true rfl) dX3_odds_22 (fun v3 x2 H locs hI hf => ?_)
    refine lv_l2i (v := v3.toInt32) hx hb dX3_odds_25 rfl ?_
    refine lv_goto (tgt := 30) hx hb dX3_odds_26 (by decide) ?_
    exact m_iret C hI hf dX3_odds_30
/-! holds(II)I -/
abbrev rmM_holds : Room := { frames := 6, cells := 0, slots := 0, locals := 138 }
def fM_holds_b26 (N : Nat) : Nat → MS → Int32 → Int32 → Int32 → Int32 → Option (Int32 × MS)
  | 0, _, _, _, _, _ => none
  | n + 1, x, l1, l2, l3, l4 =>
  if (gA x 0 88) ≤ l4 then
    if l3 = (-1) then
      some (l3, x)
    else
      if l2 = 0 then
        some (l3, x)
      else
        b2 (fM_readyBy N x l3 l1) fun v2 x1 =>
        some (v2.toInt32, x1)
  else
    b2 (fM_isReady N x l4) fun v4 x3 =>
    if v4 = 0 then
      if l3 = (-1) then
        fM_holds_b26 N n x3 l1 l2 l4 (l4 + 1)
      else
        b2 (fM_readyBy N x3 l4 l1) fun v6 x5 =>
        b2 (fM_readyBy N x5 l3 l1) fun v8 x7 =>
        if 0 ≤ (lg_cmp v6 v8) then
          fM_holds_b26 N n x7 l1 l2 l3 (l4 + 1)
        else
          fM_holds_b26 N n x7 l1 l2 l4 (l4 + 1)
    else
      fM_holds_b26 N n x3 l1 l2 l3 (l4 + 1)
theorem w_fM_holds_b26 {N : Nat} {r : Int32} {xr : MS} (C : mC w A p s m args meth c cX3_holds 5 (some .int)) : ∀ (n : Nat) (x : MS) (l1 : Int32) (l2 : Int32) (l3 : Int32) (l4 : Int32) (H : Heap) (locs : List Loc) (ls : Array Slot), mI w A x s.heap H locs → lv_has ls 5 [(0, .ref (w.2.2.1 28)), (1, .int l1), (2, .int l2), (3, .int l3), (4, .int l4)] → fM_holds_b26 N n x l1 l2 l3 l4 = some (r, xr) → W p l e rmM_holds s m args below meth c H locs 0 0 (MQ below (mQ w A (some (.int r)) xr) args s 0 0 A) (F0 m 26 ls []) := by
  have hx := C.1.1
  have hb := C.1.2.1
  have hown := C.1.2.2.2.1
  have hts := C.1.2.2.2.2.1
  have hE := C.2.2
  intro n
  induction n with
  | zero => intro x l1 l2 l3 l4 H locs ls hI hl hf; rw [fM_holds_b26] at hf; cases hf
  | succ n ih =>
  intro x l1 l2 l3 l4 H locs ls hI hl hf
  rw [fM_holds_b26] at hf
  refine lv_iload hx hb dX3_holds_26 (lv_at hl 4 rfl) ?_
  refine lv_aload_n hx hb dX3_holds_28 rfl (lv_at hl 0 rfl) ?_
  refine mg0 C hI dX3_holds_29 ?_
  refine lv_bipush (v := 88) hx hb dX3_holds_32 (by decide) ?_
  refine mac0 C hI rc1725_88 dX3_holds_34 ?_
  refine b_icge (tgt := 78) hx hb hf dX3_holds_35 (by decide) (fun hf => ?_) (fun hf => ?_)
  · refine lv_iload_n hx hb dX3_holds_78 rfl (lv_at hl 3 rfl) ?_
    refine lv_iconst (v := (-1)) hx hb dX3_holds_79 (by decide) ?_
    refine b_iceq (tgt := 87) hx hb hf dX3_holds_80 (by decide) (fun hf => ?_) (fun hf => ?_)
    · refine lv_iload_n hx hb dX3_holds_87 rfl (lv_at hl 3 rfl) ?_
      refine lv_goto (tgt := 98) hx hb dX3_holds_88 (by decide) ?_
      exact m_iret C hI hf dX3_holds_98
    · refine lv_iload_n hx hb dX3_holds_83 rfl (lv_at hl 2 rfl) ?_
      refine b_ifne (tgt := 91) hx hb hf dX3_holds_84 (by decide) (fun hf => ?_) (fun hf => ?_)
      · refine lv_aload_n hx hb dX3_holds_91 rfl (lv_at hl 0 rfl) ?_
        refine lv_iload_n hx hb dX3_holds_92 rfl (lv_at hl 3 rfl) ?_
        refine lv_iload_n hx hb dX3_holds_93 rfl (lv_at hl 1 rfl) ?_
        refine m_calll (rest := []) C hI hf (mm_readyBy l N _ _ _) rfl cqM_readyBy ⟨rfl, rfl⟩ ⟨Nat.le_of_ble_eq_true rfl, Nat.le_of_ble_eq_true rfl⟩ rfl hl.1 rfl (Nat.le_of_ble_eq_true rfl) dX3_holds_94 (fun v2 x1 H locs hI hf => ?_)
        refine lv_l2i (v := v2.toInt32) hx hb dX3_holds_97 rfl ?_
        exact m_iret C hI hf dX3_holds_98
      · refine lv_iload_n hx hb dX3_holds_87 rfl (lv_at hl 3 rfl) ?_
        refine lv_goto (tgt := 98) hx hb dX3_holds_88 (by decide) ?_
        exact m_iret C hI hf dX3_holds_98
  · refine lv_aload_n hx hb dX3_holds_38 rfl (lv_at hl 0 rfl) ?_
    refine lv_iload hx hb dX3_holds_39 (lv_at hl 4 rfl) ?_
    refine m_calli (rest := []) C hI hf (mm_isReady l N _ _) rfl cqM_isReady ⟨rfl, rfl⟩ ⟨Nat.le_of_ble_eq_true rfl, Nat.le_of_ble_eq_true rfl⟩ rfl hl.1 rfl (Nat.le_of_ble_eq_true rfl) dX3_holds_41 (fun v4 x3 H locs hI hf => ?_)
    refine b_ifne (tgt := 72) hx hb hf dX3_holds_44 (by decide) (fun hf => ?_) (fun hf => ?_)
    · refine lv_iinc (v := l4 + 1) (lv' := [(4, .int (l4 + 1)), (0, .ref (w.2.2.1 28)), (1, .int l1), (2, .int l2), (3, .int l3)]) hx hb dX3_holds_72 hl (k := 4) rfl rfl (by decide) rfl (fun ls hl => ?_)
      refine lv_goto (tgt := 26) hx hb dX3_holds_75 (by decide) ?_
      exact ih x3 l1 l2 l3 (l4 + 1) _ _ _ hI (lv_sub hl [1, 2, 3, 4, 0] rfl) hf
    · refine lv_iload_n hx hb dX3_holds_47 rfl (lv_at hl 3 rfl) ?_
      refine lv_iconst (v := (-1)) hx hb dX3_holds_48 (by decide) ?_
      refine b_iceq (tgt := 69) hx hb hf dX3_holds_49 (by decide) (fun hf => ?_) (fun hf => ?_)
      · refine lv_iload hx hb dX3_holds_69 (lv_at hl 4 rfl) ?_
        refine lv_istore_n (lv' := [(3, .int l4), (0, .ref (w.2.2.1 28)), (1, .int l1), (2, .int l2), (4, .int l4)]) hx hb dX3_holds_71 rfl hl (by decide) rfl (fun ls hl => ?_)
        refine lv_iinc (v := l4 + 1) (lv' := [(4, .int (l4 + 1)), (3, .int l4), (0, .ref (w.2.2.1 28)), (1, .int l1), (2, .int l2)]) hx hb dX3_holds_72 hl (k := 4) rfl rfl (by decide) rfl (fun ls hl => ?_)
        refine lv_goto (tgt := 26) hx hb dX3_holds_75 (by decide) ?_
        exact ih x3 l1 l2 l4 (l4 + 1) _ _ _ hI (lv_sub hl [2, 3, 4, 1, 0] rfl) hf
      · refine lv_aload_n hx hb dX3_holds_52 rfl (lv_at hl 0 rfl) ?_
        refine lv_iload hx hb dX3_holds_53 (lv_at hl 4 rfl) ?_
        refine lv_iload_n hx hb dX3_holds_55 rfl (lv_at hl 1 rfl) ?_
        refine m_calll (rest := []) C hI hf (mm_readyBy l N _ _ _) rfl cqM_readyBy ⟨rfl, rfl⟩ ⟨Nat.le_of_ble_eq_true rfl, Nat.le_of_ble_eq_true rfl⟩ rfl hl.1 rfl (Nat.le_of_ble_eq_true rfl) dX3_holds_56 (fun v6 x5 H locs hI hf => ?_)
        refine lv_aload_n hx hb dX3_holds_59 rfl (lv_at hl 0 rfl) ?_
        refine lv_iload_n hx hb dX3_holds_60 rfl (lv_at hl 3 rfl) ?_
        refine lv_iload_n hx hb dX3_holds_61 rfl (lv_at hl 1 rfl) ?_
        refine m_calll (rest := [.long v6]) C hI hf (mm_readyBy l N _ _ _) rfl cqM_readyBy ⟨rfl, rfl⟩ ⟨Nat.le_of_ble_eq_true rfl, Nat.le_of_ble_eq_true rfl⟩ rfl hl.1 rfl (Nat.le_of_ble_eq_true rfl) dX3_holds_62 (fun v8 x7 H locs hI hf => ?_)
        refine W.lcmp hx hb dX3_holds_65 ?_
        refine b_ifge (tgt := 72) hx hb hf dX3_holds_66 (by decide) (fun hf => ?_) (fun hf => ?_)
        · refine lv_iinc (v := l4 + 1) (lv' := [(4, .int (l4 + 1)), (0, .ref (w.2.2.1 28)), (1, .int l1), (2, .int l2), (3, .int l3)]) hx hb dX3_holds_72 hl (k := 4) rfl rfl (by decide) rfl (fun ls hl => ?_)
          refine lv_goto (tgt := 26) hx hb dX3_holds_75 (by decide) ?_
          exact ih x7 l1 l2 l3 (l4 + 1) _ _ _ hI (lv_sub hl [1, 2, 3, 4, 0] rfl) hf
        · refine lv_iload hx hb dX3_holds_69 (lv_at hl 4 rfl) ?_
          refine lv_istore_n (lv' := [(3, .int l4), (0, .ref (w.2.2.1 28)), (1, .int l1), (2, .int l2), (4, .int l4)]) hx hb dX3_holds_71 rfl hl (by decide) rfl (fun ls hl => ?_)
          refine lv_iinc (v := l4 + 1) (lv' := [(4, .int (l4 + 1)), (3, .int l4), (0, .ref (w.2.2.1 28)), (1, .int l1), (2, .int l2)]) hx hb dX3_holds_72 hl (k := 4) rfl rfl (by decide) rfl (fun ls hl => ?_)
          refine lv_goto (tgt := 26) hx hb dX3_holds_75 (by decide) ?_
          exact ih x7 l1 l2 l4 (l4 + 1) _ _ _ hI (lv_sub hl [2, 3, 4, 1, 0] rfl) hf
def fM_holds (N : Nat) (x : MS) (l1 : Int32) (l2 : Int32) : Option (Int32 × MS) :=
  (fM_isIn N l1 1 60).bind fun v1 =>
  if v1 = 0 then
    some ((-1), x)
  else
    (fM_isIn N l2 0 1).bind fun v2 =>
    if v2 = 0 then
      some ((-1), x)
    else
      fM_holds_b26 N N x l1 l2 (-1) 0
theorem mm_holds (l : Launch) (N : Nat) {w : mO} {A : Nat → Prop} : ∀ (x : MS) (l1 : Int32) (l2 : Int32) (r : Int32) (xr : MS), fM_holds N x l1 l2 = some (r, xr) → mMet l yX3_holds (ws_ yX3_holds cX3_holds 5 (some .int)) rmM_holds [.ref (w.2.2.1 28), .int l1, .int l2] w A x (some (.int r)) xr := by
  intro x l1 l2 r xr hf
  refine m_start (cc := cX3_holds) (by decide +kernel) rfl (Nat.le_of_ble_eq_true rfl) rfl ?_
  intro p e s m args below meth c ls H locs C hI hl
  have hx := C.1.1
  have hb := C.1.2.1
  have hown := C.1.2.2.2.1
  have hts := C.1.2.2.2.2.1
  have hE := C.2.2
  rw [fM_holds] at hf
  refine lv_iload_n hx hb dX3_holds_0 rfl (lv_at hl 1 rfl) ?_
  refine lv_iconst (v := 1) hx hb dX3_holds_1 (by decide) ?_
  refine lv_bipush (v := 60) hx hb dX3_holds_2 (by decide) ?_
  refine g_calliS (rest := []) C.1 hf (smM_isIn l N _ _ _) cqM_M_isIn ⟨rfl, rfl⟩ ⟨Nat.le_of_ble_eq_true rfl, Nat.le_of_ble_eq_true rfl⟩ rfl hl.1 rfl (Nat.le_of_ble_eq_true rfl) ⟨Nat.zero_le _, Nat.zero_le _⟩ dX3_holds_4 (fun v1 hf => ?_)
  refine b_ifeq (tgt := 19) hx hb hf dX3_holds_7 (by decide) (fun hf => ?_) (fun hf => ?_)
  · refine lv_iconst (v := (-1)) hx hb dX3_holds_19 (by decide) ?_
    exact m_iret C hI hf dX3_holds_20
  · refine lv_iload_n hx hb dX3_holds_10 rfl (lv_at hl 2 rfl) ?_
    refine lv_iconst (v := 0) hx hb dX3_holds_11 (by decide) ?_
    refine lv_iconst (v := 1) hx hb dX3_holds_12 (by decide) ?_
    refine g_calliS (rest := []) C.1 hf (smM_isIn l N _ _ _) cqM_M_isIn ⟨rfl, rfl⟩ ⟨Nat.le_of_ble_eq_true rfl, Nat.le_of_ble_eq_true rfl⟩ rfl hl.1 rfl (Nat.le_of_ble_eq_true rfl) ⟨Nat.zero_le _, Nat.zero_le _⟩ dX3_holds_13 (fun v2 hf => ?_)
    refine b_ifne (tgt := 21) hx hb hf dX3_holds_16 (by decide) (fun hf => ?_) (fun hf => ?_)
    · refine lv_iconst (v := (-1)) hx hb dX3_holds_21 (by decide) ?_
      refine lv_istore_n (lv' := [(3, .int (-1)), (0, .ref (w.2.2.1 28)), (1, .int l1), (2, .int l2)]) hx hb dX3_holds_22 rfl hl (by decide) rfl (fun ls hl => ?_)
      refine lv_iconst (v := 0) hx hb dX3_holds_23 (by decide) ?_
      refine lv_istore (lv' := [(4, .int 0), (3, .int (-1)), (0, .ref (w.2.2.1 28)), (1, .int l1), (2, .int l2)]) hx hb dX3_holds_24 hl (by decide) rfl (fun ls hl => ?_)
      exact w_fM_holds_b26 C N x l1 l2 (-1) 0 _ _ _ hI (lv_sub hl [2, 3, 4, 1, 0] rfl) hf
    · refine lv_iconst (v := (-1)) hx hb dX3_holds_19 (by decide) ?_
      exact m_iret C hI hf dX3_holds_20
/-! many(II)I -/
abbrev rmM_many : Room := { frames := 1, cells := 0, slots := 0, locals := 24 }
def fM_many_b30 (N : Nat) : Nat → MS → Int32 → Int32 → Int64 → Int32 → Option (Int32 × MS)
  | 0, _, _, _, _, _ => none
  | n + 1, x, l1, l2, l3, l5 =>
  if 60 ≤ l5 then
    some (l5, x)
  else
    (fM_sureBy N l1 l2).bind fun v1 =>
    (dvL (l3 * v1) 1000000).bind fun v2 =>
    if (lg_cmp v2 500000) < 0 then
      some (l5, x)
    else
      (fM_sureBy N l1 l2).bind fun v3 =>
      (dvL (l3 * v3) 1000000).bind fun v4 =>
      fM_many_b30 N n x l1 l2 v4 (l5 + 1)
theorem w_fM_many_b30 {N : Nat} {r : Int32} {xr : MS} (C : mC w A p s m args meth c cX3_many 6 (some .int)) : ∀ (n : Nat) (x : MS) (l1 : Int32) (l2 : Int32) (l3 : Int64) (l5 : Int32) (H : Heap) (locs : List Loc) (ls : Array Slot), mI w A x s.heap H locs → lv_has ls 6 [(1, .int l1), (2, .int l2), (3, .long l3), (5, .int l5)] → fM_many_b30 N n x l1 l2 l3 l5 = some (r, xr) → W p l e rmM_many s m args below meth c H locs 0 0 (MQ below (mQ w A (some (.int r)) xr) args s 0 0 A) (F0 m 30 ls []) := by
  have hx := C.1.1
  have hb := C.1.2.1
  have hown := C.1.2.2.2.1
  have hts := C.1.2.2.2.2.1
  have hE := C.2.2
  intro n
  induction n with
  | zero => intro x l1 l2 l3 l5 H locs ls hI hl hf; rw [fM_many_b30] at hf; cases hf
  | succ n ih =>
  intro x l1 l2 l3 l5 H locs ls hI hl hf
  rw [fM_many_b30] at hf
  refine lv_iload hx hb dX3_many_30 (lv_at hl 3 rfl) ?_
  refine lv_bipush (v := 60) hx hb dX3_many_32 (by decide) ?_
  refine b_icge (tgt := 73) hx hb hf dX3_many_34 (by decide) (fun hf => ?_) (fun hf => ?_)
  · refine lv_iload hx hb dX3_many_73 (lv_at hl 3 rfl) ?_
    exact m_iret C hI hf dX3_many_75
  · refine lv_lload_n hx hb dX3_many_37 rfl (lv_at hl 2 rfl) ?_
    refine lv_iload_n hx hb dX3_many_38 rfl (lv_at hl 0 rfl) ?_
    refine lv_iload_n hx hb dX3_many_39 rfl (lv_at hl 1 rfl) ?_
    refine g_calllS (rest := [.long l3]) C.1 hf (smM_sureBy l N _ _) cqM_M_sureBy ⟨rfl, rfl⟩ ⟨Nat.le_of_ble_eq_true rfl, Nat.le_of_ble_eq_true rfl⟩ rfl hl.1 rfl (Nat.le_of_ble_eq_true rfl) ⟨Nat.zero_le _, Nat.zero_le _⟩ dX3_many_40 (fun v1 hf => ?_)
    refine lv_lmul hx hb dX3_many_43 ?_
    refine lv_ldc2 hx hb hown (hts _ q1865) dX3_many_44 ?_
    refine b_ldiv hx hb hf dX3_many_47 (fun v2 hf => ?_)
    refine lv_ldc2 hx hb hown (hts _ q1882) dX3_many_48 ?_
    refine W.lcmp hx hb dX3_many_51 ?_
    refine b_iflt (tgt := 73) hx hb hf dX3_many_52 (by decide) (fun hf => ?_) (fun hf => ?_)
    · refine lv_iload hx hb dX3_many_73 (lv_at hl 3 rfl) ?_
      exact m_iret C hI hf dX3_many_75
    · refine lv_lload_n hx hb dX3_many_55 rfl (lv_at hl 2 rfl) ?_
      refine lv_iload_n hx hb dX3_many_56 rfl (lv_at hl 0 rfl) ?_
      refine lv_iload_n hx hb dX3_many_57 rfl (lv_at hl 1 rfl) ?_
      refine g_calllS (rest := [.long l3]) C.1 hf (smM_sureBy l N _ _) cqM_M_sureBy ⟨rfl, rfl⟩ ⟨Nat.le_of_ble_eq_true rfl, Nat.le_of_ble_eq_true rfl⟩ rfl hl.1 rfl (Nat.le_of_ble_eq_true rfl) ⟨Nat.zero_le _, Nat.zero_le _⟩ dX3_many_58 (fun v3 hf => ?_)
      refine lv_lmul hx hb dX3_many_61 ?_
      refine lv_ldc2 hx hb hown (hts _ q1865) dX3_many_62 ?_
      refine b_ldiv hx hb hf dX3_many_65 (fun v4 hf => ?_)
      refine lv_lstore_n (lv' := [(3, .long v4), (1, .int l1), (2, .int l2), (5, .int l5)]) hx hb dX3_many_66 rfl hl (by decide) rfl (fun ls hl => ?_)
      refine lv_iinc (v := l5 + 1) (lv' := [(5, .int (l5 + 1)), (3, .long v4), (1, .int l1), (2, .int l2)]) hx hb dX3_many_67 hl (k := 3) rfl rfl (by decide) rfl (fun ls hl => ?_)
      refine lv_goto (tgt := 30) hx hb dX3_many_70 (by decide) ?_
      exact ih x l1 l2 v4 (l5 + 1) _ _ _ hI (lv_sub hl [2, 3, 1, 0] rfl) hf
def fM_many (N : Nat) (x : MS) (l1 : Int32) (l2 : Int32) : Option (Int32 × MS) :=
  (fM_isIn N l1 0 1000).bind fun v1 =>
  if v1 = 0 then
    some ((-1), x)
  else
    (fM_isIn N l2 1 60).bind fun v2 =>
    if v2 = 0 then
      some ((-1), x)
    else
      fM_many_b30 N N x l1 l2 1000000 0
theorem mm_many (l : Launch) (N : Nat) {w : mO} {A : Nat → Prop} : ∀ (x : MS) (l1 : Int32) (l2 : Int32) (r : Int32) (xr : MS), fM_many N x l1 l2 = some (r, xr) → mMet l yX3_many (ws_ yX3_many cX3_many 6 (some .int)) rmM_many [.ref (w.2.2.1 28), .int l1, .int l2] w A x (some (.int r)) xr := by
  intro x l1 l2 r xr hf
  refine m_start (cc := cX3_many) (by decide +kernel) rfl (Nat.le_of_ble_eq_true rfl) rfl ?_
  intro p e s m args below meth c ls H locs C hI hl
  have hx := C.1.1
  have hb := C.1.2.1
  have hown := C.1.2.2.2.1
  have hts := C.1.2.2.2.2.1
  have hE := C.2.2
  rw [fM_many] at hf
  refine lv_iload_n hx hb dX3_many_0 rfl (lv_at hl 1 rfl) ?_
  refine lv_iconst (v := 0) hx hb dX3_many_1 (by decide) ?_
  refine lv_sipush (v := 1000) hx hb dX3_many_2 (by decide) ?_
  refine g_calliS (rest := []) C.1 hf (smM_isIn l N _ _ _) cqM_M_isIn ⟨rfl, rfl⟩ ⟨Nat.le_of_ble_eq_true rfl, Nat.le_of_ble_eq_true rfl⟩ rfl hl.1 rfl (Nat.le_of_ble_eq_true rfl) ⟨Nat.zero_le _, Nat.zero_le _⟩ dX3_many_5 (fun v1 hf => ?_)
  refine b_ifeq (tgt := 21) hx hb hf dX3_many_8 (by decide) (fun hf => ?_) (fun hf => ?_)
  · refine lv_iconst (v := (-1)) hx hb dX3_many_21 (by decide) ?_
    exact m_iret C hI hf dX3_many_22
  · refine lv_iload_n hx hb dX3_many_11 rfl (lv_at hl 2 rfl) ?_
    refine lv_iconst (v := 1) hx hb dX3_many_12 (by decide) ?_
    refine lv_bipush (v := 60) hx hb dX3_many_13 (by decide) ?_
    refine g_calliS (rest := []) C.1 hf (smM_isIn l N _ _ _) cqM_M_isIn ⟨rfl, rfl⟩ ⟨Nat.le_of_ble_eq_true rfl, Nat.le_of_ble_eq_true rfl⟩ rfl hl.1 rfl (Nat.le_of_ble_eq_true rfl) ⟨Nat.zero_le _, Nat.zero_le _⟩ dX3_many_15 (fun v2 hf => ?_)
    refine b_ifne (tgt := 23) hx hb hf dX3_many_18 (by decide) (fun hf => ?_) (fun hf => ?_)
    · refine lv_ldc2 hx hb hown (hts _ q1865) dX3_many_23 ?_
      refine lv_lstore_n (lv' := [(3, .long 1000000), (0, .ref (w.2.2.1 28)), (1, .int l1), (2, .int l2)]) hx hb dX3_many_26 rfl hl (by decide) rfl (fun ls hl => ?_)
      refine lv_iconst (v := 0) hx hb dX3_many_27 (by decide) ?_
      refine lv_istore (lv' := [(5, .int 0), (3, .long 1000000), (0, .ref (w.2.2.1 28)), (1, .int l1), (2, .int l2)]) hx hb dX3_many_28 hl (by decide) rfl (fun ls hl => ?_)
      exact w_fM_many_b30 C N x l1 l2 1000000 0 _ _ _ hI (lv_sub hl [3, 4, 1, 0] rfl) hf
    · refine lv_iconst (v := (-1)) hx hb dX3_many_21 (by decide) ?_
      exact m_iret C hI hf dX3_many_22
/-! soon(I)I -/
abbrev rmM_soon : Room := { frames := 7, cells := 0, slots := 0, locals := 164 }
def fM_soon_b15 (N : Nat) : Nat → MS → Int32 → Int32 → Option (Int32 × MS)
  | 0, _, _, _ => none
  | n + 1, x, l1, l2 =>
  if 60 < l2 then
    some ((-1), x)
  else
    b2 (fM_allBy N x 0 ((gA x 0 88) - 1) l2) fun v2 x1 =>
    if (lg_cmp v2 l1.toInt64) < 0 then
      fM_soon_b15 N n x1 l1 (l2 + 1)
    else
      some (l2, x1)
theorem w_fM_soon_b15 {N : Nat} {r : Int32} {xr : MS} (C : mC w A p s m args meth c cX3_soon 3 (some .int)) : ∀ (n : Nat) (x : MS) (l1 : Int32) (l2 : Int32) (H : Heap) (locs : List Loc) (ls : Array Slot), mI w A x s.heap H locs → lv_has ls 3 [(0, .ref (w.2.2.1 28)), (1, .int l1), (2, .int l2)] → fM_soon_b15 N n x l1 l2 = some (r, xr) → W p l e rmM_soon s m args below meth c H locs 0 0 (MQ below (mQ w A (some (.int r)) xr) args s 0 0 A) (F0 m 15 ls []) := by
  have hx := C.1.1
  have hb := C.1.2.1
  have hown := C.1.2.2.2.1
  have hts := C.1.2.2.2.2.1
  have hE := C.2.2
  intro n
  induction n with
  | zero => intro x l1 l2 H locs ls hI hl hf; rw [fM_soon_b15] at hf; cases hf
  | succ n ih =>
  intro x l1 l2 H locs ls hI hl hf
  rw [fM_soon_b15] at hf
  refine lv_iload_n hx hb dX3_soon_15 rfl (lv_at hl 2 rfl) ?_
  refine lv_bipush (v := 60) hx hb dX3_soon_16 (by decide) ?_
  refine b_icgt (tgt := 50) hx hb hf dX3_soon_18 (by decide) (fun hf => ?_) (fun hf => ?_)
  · refine lv_iconst (v := (-1)) hx hb dX3_soon_50 (by decide) ?_
    exact m_iret C hI hf dX3_soon_51
  · refine lv_aload_n hx hb dX3_soon_21 rfl (lv_at hl 0 rfl) ?_
    refine lv_iconst (v := 0) hx hb dX3_soon_22 (by decide) ?_
    refine lv_aload_n hx hb dX3_soon_23 rfl (lv_at hl 0 rfl) ?_
    refine mg0 C hI dX3_soon_24 ?_
    refine lv_bipush (v := 88) hx hb dX3_soon_27 (by decide) ?_
    refine mac0 C hI rc1725_88 dX3_soon_29 ?_
    refine lv_iconst (v := 1) hx hb dX3_soon_30 (by decide) ?_
    refine lv_isub hx hb dX3_soon_31 ?_
    refine lv_iload_n hx hb dX3_soon_32 rfl (lv_at hl 2 rfl) ?_
    refine m_calll (rest := []) C hI hf (mm_allBy l N _ _ _ _) rfl cqM_allBy ⟨rfl, rfl⟩ ⟨Nat.le_of_ble_eq_true rfl, Nat.le_of_ble_eq_true rfl⟩ rfl hl.1 rfl (Nat.le_of_ble_eq_true rfl) dX3_soon_33 (fun v2 x1 H locs hI hf => ?_)
    refine lv_iload_n hx hb dX3_soon_36 rfl (lv_at hl 1 rfl) ?_
    refine lv_i2l (v := l1.toInt64) hx hb dX3_soon_37 rfl ?_
    refine W.lcmp hx hb dX3_soon_38 ?_
    refine b_iflt (tgt := 44) hx hb hf dX3_soon_39 (by decide) (fun hf => ?_) (fun hf => ?_)
    · refine lv_iinc (v := l2 + 1) (lv' := [(2, .int (l2 + 1)), (0, .ref (w.2.2.1 28)), (1, .int l1)]) hx hb dX3_soon_44 hl (k := 2) rfl rfl (by decide) rfl (fun ls hl => ?_)
      refine lv_goto (tgt := 15) hx hb dX3_soon_47 (by decide) ?_
      exact ih x1 l1 (l2 + 1) _ _ _ hI (lv_sub hl [1, 2, 0] rfl) hf
    · refine lv_iload_n hx hb dX3_soon_42 rfl (lv_at hl 2 rfl) ?_
      exact m_iret C hI hf dX3_soon_43
def fM_soon (N : Nat) (x : MS) (l1 : Int32) : Option (Int32 × MS) :=
  (fM_isIn N l1 0 1000000).bind fun v1 =>
  if v1 = 0 then
    some ((-1), x)
  else
    fM_soon_b15 N N x l1 1
theorem mm_soon (l : Launch) (N : Nat) {w : mO} {A : Nat → Prop} : ∀ (x : MS) (l1 : Int32) (r : Int32) (xr : MS), fM_soon N x l1 = some (r, xr) → mMet l yX3_soon (ws_ yX3_soon cX3_soon 3 (some .int)) rmM_soon [.ref (w.2.2.1 28), .int l1] w A x (some (.int r)) xr := by
  intro x l1 r xr hf
  refine m_start (cc := cX3_soon) (by decide +kernel) rfl (Nat.le_of_ble_eq_true rfl) rfl ?_
  intro p e s m args below meth c ls H locs C hI hl
  have hx := C.1.1
  have hb := C.1.2.1
  have hown := C.1.2.2.2.1
  have hts := C.1.2.2.2.2.1
  have hE := C.2.2
  rw [fM_soon] at hf
  refine lv_iload_n hx hb dX3_soon_0 rfl (lv_at hl 1 rfl) ?_
  refine lv_iconst (v := 0) hx hb dX3_soon_1 (by decide) ?_
  refine lv_ldcw hx hb hown (hts _ q1887) dX3_soon_2 ?_
  refine g_calliS (rest := []) C.1 hf (smM_isIn l N _ _ _) cqM_M_isIn ⟨rfl, rfl⟩ ⟨Nat.le_of_ble_eq_true rfl, Nat.le_of_ble_eq_true rfl⟩ rfl hl.1 rfl (Nat.le_of_ble_eq_true rfl) ⟨Nat.zero_le _, Nat.zero_le _⟩ dX3_soon_5 (fun v1 hf => ?_)
  refine b_ifne (tgt := 13) hx hb hf dX3_soon_8 (by decide) (fun hf => ?_) (fun hf => ?_)
  · refine lv_iconst (v := 1) hx hb dX3_soon_13 (by decide) ?_
    refine lv_istore_n (lv' := [(2, .int 1), (0, .ref (w.2.2.1 28)), (1, .int l1)]) hx hb dX3_soon_14 rfl hl (by decide) rfl (fun ls hl => ?_)
    exact w_fM_soon_b15 C N x l1 1 _ _ _ hI (lv_sub hl [1, 2, 0] rfl) hf
  · refine lv_iconst (v := (-1)) hx hb dX3_soon_11 (by decide) ?_
    exact m_iret C hI hf dX3_soon_12
/-! hurriedBy(II)J -/
abbrev rmM_hurriedBy : Room := { frames := 7, cells := 0, slots := 0, locals := 164 }
def fM_hurriedBy (N : Nat) (x : MS) (l1 : Int32) (l2 : Int32) : Option (Int64 × MS) :=
  (rd 1725 (gA x 0) (93 + l1)).bind fun v1 =>
  (wr x 0 1725 (93 + l1) 0).bind fun x2 =>
  b2 (fM_allBy N x2 0 ((gA x2 0 88) - 1) l2) fun v4 x3 =>
  (wr x3 0 1725 (93 + l1) v1).bind fun x5 =>
  some (v4, x5)
theorem mm_hurriedBy (l : Launch) (N : Nat) {w : mO} {A : Nat → Prop} : ∀ (x : MS) (l1 : Int32) (l2 : Int32) (r : Int64) (xr : MS), fM_hurriedBy N x l1 l2 = some (r, xr) → mMet l yX3_hurriedBy (ws_ yX3_hurriedBy cX3_hurriedBy 6 (some .long)) rmM_hurriedBy [.ref (w.2.2.1 28), .int l1, .int l2] w A x (some (.long r)) xr := by
  intro x l1 l2 r xr hf
  refine m_start (cc := cX3_hurriedBy) (by decide +kernel) rfl (Nat.le_of_ble_eq_true rfl) rfl ?_
  intro p e s m args below meth c ls H locs C hI hl
  have hx := C.1.1
  have hb := C.1.2.1
  have hown := C.1.2.2.2.1
  have hts := C.1.2.2.2.2.1
  have hE := C.2.2
  rw [fM_hurriedBy] at hf
  refine lv_aload_n hx hb dX3_hurriedBy_0 rfl (lv_at hl 0 rfl) ?_
  refine mg0 C hI dX3_hurriedBy_1 ?_
  refine lv_bipush (v := 93) hx hb dX3_hurriedBy_4 (by decide) ?_
  refine lv_iload_n hx hb dX3_hurriedBy_6 rfl (lv_at hl 1 rfl) ?_
  refine lv_iadd hx hb dX3_hurriedBy_7 ?_
  refine ma0 C hI hf dX3_hurriedBy_8 (fun v1 hf => ?_)
  refine lv_istore_n (lv' := [(3, .int v1), (0, .ref (w.2.2.1 28)), (1, .int l1), (2, .int l2)]) hx hb dX3_hurriedBy_9 rfl hl (by decide) rfl (fun ls hl => ?_)
  refine lv_aload_n hx hb dX3_hurriedBy_10 rfl (lv_at hl 1 rfl) ?_
  refine mg0 C hI dX3_hurriedBy_11 ?_
  refine lv_bipush (v := 93) hx hb dX3_hurriedBy_14 (by decide) ?_
  refine lv_iload_n hx hb dX3_hurriedBy_16 rfl (lv_at hl 2 rfl) ?_
  refine lv_iadd hx hb dX3_hurriedBy_17 ?_
  refine lv_iconst (v := 0) hx hb dX3_hurriedBy_18 (by decide) ?_
  refine ms0 C hI hf dX3_hurriedBy_19 (fun x2 H locs hI hf => ?_)
  refine lv_aload_n hx hb dX3_hurriedBy_20 rfl (lv_at hl 1 rfl) ?_
  refine lv_iconst (v := 0) hx hb dX3_hurriedBy_21 (by decide) ?_
  refine lv_aload_n hx hb dX3_hurriedBy_22 rfl (lv_at hl 1 rfl) ?_
  refine mg0 C hI dX3_hurriedBy_23 ?_
  refine lv_bipush (v := 88) hx hb dX3_hurriedBy_26 (by decide) ?_
  refine mac0 C hI rc1725_88 dX3_hurriedBy_28 ?_
  refine lv_iconst (v := 1) hx hb dX3_hurriedBy_29 (by decide) ?_
  refine lv_isub hx hb dX3_hurriedBy_30 ?_
  refine lv_iload_n hx hb dX3_hurriedBy_31 rfl (lv_at hl 3 rfl) ?_
  refine m_calll (rest := []) C hI hf (mm_allBy l N _ _ _ _) rfl cqM_allBy ⟨rfl, rfl⟩ ⟨Nat.le_of_ble_eq_true rfl, Nat.le_of_ble_eq_true rfl⟩ rfl hl.1 rfl (Nat.le_of_ble_eq_true rfl) dX3_hurriedBy_32 (fun v4 x3 H locs hI hf => ?_)
  refine lv_lstore (lv' := [(4, .long v4), (3, .int v1), (0, .ref (w.2.2.1 28)), (1, .int l1), (2, .int l2)]) hx hb dX3_hurriedBy_35 hl (by decide) rfl (fun ls hl => ?_)
  refine lv_aload_n hx hb dX3_hurriedBy_37 rfl (lv_at hl 2 rfl) ?_
  refine mg0 C hI dX3_hurriedBy_38 ?_
  refine lv_bipush (v := 93) hx hb dX3_hurriedBy_41 (by decide) ?_
  refine lv_iload_n hx hb dX3_hurriedBy_43 rfl (lv_at hl 3 rfl) ?_
  refine lv_iadd hx hb dX3_hurriedBy_44 ?_
  refine lv_iload_n hx hb dX3_hurriedBy_45 rfl (lv_at hl 1 rfl) ?_
  refine ms0 C hI hf dX3_hurriedBy_46 (fun x5 H locs hI hf => ?_)
  refine lv_lload hx hb dX3_hurriedBy_47 (lv_at hl 0 rfl) ?_
  exact m_lret C hI hf dX3_hurriedBy_49
/-! hurry(II)I -/
abbrev rmM_hurry : Room := { frames := 8, cells := 0, slots := 0, locals := 189 }
def fM_hurry_b36 (N : Nat) : Nat → MS → Int32 → Int32 → Int32 → Int32 → Option (Int32 × MS)
  | 0, _, _, _, _, _ => none
  | n + 1, x, l1, l2, l3, l4 =>
  if (gA x 0 88) ≤ l4 then
    if l2 = 0 then
      some (l3, x)
    else
      b2 (fM_hurriedBy N x l3 l1) fun v2 x1 =>
      some (v2.toInt32, x1)
  else
    b2 (fM_hurriedBy N x l4 l1) fun v4 x3 =>
    b2 (fM_hurriedBy N x3 l3 l1) fun v6 x5 =>
    if (lg_cmp v4 v6) ≤ 0 then
      fM_hurry_b36 N n x5 l1 l2 l3 (l4 + 1)
    else
      fM_hurry_b36 N n x5 l1 l2 l4 (l4 + 1)
theorem w_fM_hurry_b36 {N : Nat} {r : Int32} {xr : MS} (C : mC w A p s m args meth c cX3_hurry 5 (some .int)) : ∀ (n : Nat) (x : MS) (l1 : Int32) (l2 : Int32) (l3 : Int32) (l4 : Int32) (H : Heap) (locs : List Loc) (ls : Array Slot), mI w A x s.heap H locs → lv_has ls 5 [(0, .ref (w.2.2.1 28)), (1, .int l1), (2, .int l2), (3, .int l3), (4, .int l4)] → fM_hurry_b36 N n x l1 l2 l3 l4 = some (r, xr) → W p l e rmM_hurry s m args below meth c H locs 0 0 (MQ below (mQ w A (some (.int r)) xr) args s 0 0 A) (F0 m 36 ls []) := by
  have hx := C.1.1
  have hb := C.1.2.1
  have hown := C.1.2.2.2.1
  have hts := C.1.2.2.2.2.1
  have hE := C.2.2
  intro n
  induction n with
  | zero => intro x l1 l2 l3 l4 H locs ls hI hl hf; rw [fM_hurry_b36] at hf; cases hf
  | succ n ih =>
  intro x l1 l2 l3 l4 H locs ls hI hl hf
  rw [fM_hurry_b36] at hf
  refine lv_iload hx hb dX3_hurry_36 (lv_at hl 4 rfl) ?_
  refine lv_aload_n hx hb dX3_hurry_38 rfl (lv_at hl 0 rfl) ?_
  refine mg0 C hI dX3_hurry_39 ?_
  refine lv_bipush (v := 88) hx hb dX3_hurry_42 (by decide) ?_
  refine mac0 C hI rc1725_88 dX3_hurry_44 ?_
  refine b_icge (tgt := 74) hx hb hf dX3_hurry_45 (by decide) (fun hf => ?_) (fun hf => ?_)
  · refine lv_iload_n hx hb dX3_hurry_74 rfl (lv_at hl 2 rfl) ?_
    refine b_ifne (tgt := 82) hx hb hf dX3_hurry_75 (by decide) (fun hf => ?_) (fun hf => ?_)
    · refine lv_aload_n hx hb dX3_hurry_82 rfl (lv_at hl 0 rfl) ?_
      refine lv_iload_n hx hb dX3_hurry_83 rfl (lv_at hl 3 rfl) ?_
      refine lv_iload_n hx hb dX3_hurry_84 rfl (lv_at hl 1 rfl) ?_
      refine m_calll (rest := []) C hI hf (mm_hurriedBy l N _ _ _) rfl cqM_hurriedBy ⟨rfl, rfl⟩ ⟨Nat.le_of_ble_eq_true rfl, Nat.le_of_ble_eq_true rfl⟩ rfl hl.1 rfl (Nat.le_of_ble_eq_true rfl) dX3_hurry_85 (fun v2 x1 H locs hI hf => ?_)
      refine lv_l2i (v := v2.toInt32) hx hb dX3_hurry_88 rfl ?_
      exact m_iret C hI hf dX3_hurry_89
    · refine lv_iload_n hx hb dX3_hurry_78 rfl (lv_at hl 3 rfl) ?_
      refine lv_goto (tgt := 89) hx hb dX3_hurry_79 (by decide) ?_
      exact m_iret C hI hf dX3_hurry_89
  · refine lv_aload_n hx hb dX3_hurry_48 rfl (lv_at hl 0 rfl) ?_
    refine lv_iload hx hb dX3_hurry_49 (lv_at hl 4 rfl) ?_
    refine lv_iload_n hx hb dX3_hurry_51 rfl (lv_at hl 1 rfl) ?_
    refine m_calll (rest := []) C hI hf (mm_hurriedBy l N _ _ _) rfl cqM_hurriedBy ⟨rfl, rfl⟩ ⟨Nat.le_of_ble_eq_true rfl, Nat.le_of_ble_eq_true rfl⟩ rfl hl.1 rfl (Nat.le_of_ble_eq_true rfl) dX3_hurry_52 (fun v4 x3 H locs hI hf => ?_)
    refine lv_aload_n hx hb dX3_hurry_55 rfl (lv_at hl 0 rfl) ?_
    refine lv_iload_n hx hb dX3_hurry_56 rfl (lv_at hl 3 rfl) ?_
    refine lv_iload_n hx hb dX3_hurry_57 rfl (lv_at hl 1 rfl) ?_
    refine m_calll (rest := [.long v4]) C hI hf (mm_hurriedBy l N _ _ _) rfl cqM_hurriedBy ⟨rfl, rfl⟩ ⟨Nat.le_of_ble_eq_true rfl, Nat.le_of_ble_eq_true rfl⟩ rfl hl.1 rfl (Nat.le_of_ble_eq_true rfl) dX3_hurry_58 (fun v6 x5 H locs hI hf => ?_)
    refine W.lcmp hx hb dX3_hurry_61 ?_
    refine b_ifle (tgt := 68) hx hb hf dX3_hurry_62 (by decide) (fun hf => ?_) (fun hf => ?_)
    · refine lv_iinc (v := l4 + 1) (lv' := [(4, .int (l4 + 1)), (0, .ref (w.2.2.1 28)), (1, .int l1), (2, .int l2), (3, .int l3)]) hx hb dX3_hurry_68 hl (k := 4) rfl rfl (by decide) rfl (fun ls hl => ?_)
      refine lv_goto (tgt := 36) hx hb dX3_hurry_71 (by decide) ?_
      exact ih x5 l1 l2 l3 (l4 + 1) _ _ _ hI (lv_sub hl [1, 2, 3, 4, 0] rfl) hf
    · refine lv_iload hx hb dX3_hurry_65 (lv_at hl 4 rfl) ?_
      refine lv_istore_n (lv' := [(3, .int l4), (0, .ref (w.2.2.1 28)), (1, .int l1), (2, .int l2), (4, .int l4)]) hx hb dX3_hurry_67 rfl hl (by decide) rfl (fun ls hl => ?_)
      refine lv_iinc (v := l4 + 1) (lv' := [(4, .int (l4 + 1)), (3, .int l4), (0, .ref (w.2.2.1 28)), (1, .int l1), (2, .int l2)]) hx hb dX3_hurry_68 hl (k := 4) rfl rfl (by decide) rfl (fun ls hl => ?_)
      refine lv_goto (tgt := 36) hx hb dX3_hurry_71 (by decide) ?_
      exact ih x5 l1 l2 l4 (l4 + 1) _ _ _ hI (lv_sub hl [2, 3, 4, 1, 0] rfl) hf
def fM_hurry (N : Nat) (x : MS) (l1 : Int32) (l2 : Int32) : Option (Int32 × MS) :=
  (fM_isIn N l1 1 60).bind fun v1 =>
  if v1 = 0 then
    some ((-1), x)
  else
    (fM_isIn N l2 0 1).bind fun v2 =>
    if v2 = 0 then
      some ((-1), x)
    else
      if (gA x 0 88) = 0 then
        some ((-1), x)
      else
        fM_hurry_b36 N N x l1 l2 0 1
theorem mm_hurry (l : Launch) (N : Nat) {w : mO} {A : Nat → Prop} : ∀ (x : MS) (l1 : Int32) (l2 : Int32) (r : Int32) (xr : MS), fM_hurry N x l1 l2 = some (r, xr) → mMet l yX3_hurry (ws_ yX3_hurry cX3_hurry 5 (some .int)) rmM_hurry [.ref (w.2.2.1 28), .int l1, .int l2] w A x (some (.int r)) xr := by
  intro x l1 l2 r xr hf
  refine m_start (cc := cX3_hurry) (by decide +kernel) rfl (Nat.le_of_ble_eq_true rfl) rfl ?_
  intro p e s m args below meth c ls H locs C hI hl
  have hx := C.1.1
  have hb := C.1.2.1
  have hown := C.1.2.2.2.1
  have hts := C.1.2.2.2.2.1
  have hE := C.2.2
  rw [fM_hurry] at hf
  refine lv_iload_n hx hb dX3_hurry_0 rfl (lv_at hl 1 rfl) ?_
  refine lv_iconst (v := 1) hx hb dX3_hurry_1 (by decide) ?_
  refine lv_bipush (v := 60) hx hb dX3_hurry_2 (by decide) ?_
  refine g_calliS (rest := []) C.1 hf (smM_isIn l N _ _ _) cqM_M_isIn ⟨rfl, rfl⟩ ⟨Nat.le_of_ble_eq_true rfl, Nat.le_of_ble_eq_true rfl⟩ rfl hl.1 rfl (Nat.le_of_ble_eq_true rfl) ⟨Nat.zero_le _, Nat.zero_le _⟩ dX3_hurry_4 (fun v1 hf => ?_)
  refine b_ifeq (tgt := 29) hx hb hf dX3_hurry_7 (by decide) (fun hf => ?_) (fun hf => ?_)
  · refine lv_iconst (v := (-1)) hx hb dX3_hurry_29 (by decide) ?_
    exact m_iret C hI hf dX3_hurry_30
  · refine lv_iload_n hx hb dX3_hurry_10 rfl (lv_at hl 2 rfl) ?_
    refine lv_iconst (v := 0) hx hb dX3_hurry_11 (by decide) ?_
    refine lv_iconst (v := 1) hx hb dX3_hurry_12 (by decide) ?_
    refine g_calliS (rest := []) C.1 hf (smM_isIn l N _ _ _) cqM_M_isIn ⟨rfl, rfl⟩ ⟨Nat.le_of_ble_eq_true rfl, Nat.le_of_ble_eq_true rfl⟩ rfl hl.1 rfl (Nat.le_of_ble_eq_true rfl) ⟨Nat.zero_le _, Nat.zero_le _⟩ dX3_hurry_13 (fun v2 hf => ?_)
    refine b_ifeq (tgt := 29) hx hb hf dX3_hurry_16 (by decide) (fun hf => ?_) (fun hf => ?_)
    · refine lv_iconst (v := (-1)) hx hb dX3_hurry_29 (by decide) ?_
      exact m_iret C hI hf dX3_hurry_30
    · refine lv_aload_n hx hb dX3_hurry_19 rfl (lv_at hl 0 rfl) ?_
      refine mg0 C hI dX3_hurry_20 ?_
      refine lv_bipush (v := 88) hx hb dX3_hurry_23 (by decide) ?_
      refine mac0 C hI rc1725_88 dX3_hurry_25 ?_
      refine b_ifne (tgt := 31) hx hb hf dX3_hurry_26 (by decide) (fun hf => ?_) (fun hf => ?_)
      · refine lv_iconst (v := 0) hx hb dX3_hurry_31 (by decide) ?_
        refine lv_istore_n (lv' := [(3, .int 0), (0, .ref (w.2.2.1 28)), (1, .int l1), (2, .int l2)]) hx hb dX3_hurry_32 rfl hl (by decide) rfl (fun ls hl => ?_)
        refine lv_iconst (v := 1) hx hb dX3_hurry_33 (by decide) ?_
        refine lv_istore (lv' := [(4, .int 1), (3, .int 0), (0, .ref (w.2.2.1 28)), (1, .int l1), (2, .int l2)]) hx hb dX3_hurry_34 hl (by decide) rfl (fun ls hl => ?_)
        exact w_fM_hurry_b36 C N x l1 l2 0 1 _ _ _ hI (lv_sub hl [2, 3, 4, 1, 0] rfl) hf
      · refine lv_iconst (v := (-1)) hx hb dX3_hurry_29 (by decide) ?_
        exact m_iret C hI hf dX3_hurry_30
/-! leastBy(II)J -/
abbrev rmM_leastBy : Room := { frames := 7, cells := 0, slots := 0, locals := 164 }
def fM_leastBy_b52 (N : Nat) (k7 : MS → Int32 → Int32 → Int64 → Int32 → Option (Int64 × MS)) (x : MS) (l1 : Int32) (l2 : Int32) (l6 : Int32) (s0 : Int64) : Option (Int64 × MS) :=
  if l6 = ((gA x 0 88) - 1) then
    k7 x l1 l2 s0 (gA x 0 88)
  else
    k7 x l1 l2 s0 l6
theorem w_fM_leastBy_b52 {N : Nat} {r : Int64} {xr : MS} {k7 : MS → Int32 → Int32 → Int64 → Int32 → Option (Int64 × MS)} (C : mC w A p s m args meth c cX3_leastBy 9 (some .long)) (hk7 : ∀ (x : MS) (l1 : Int32) (l2 : Int32) (l3 : Int64) (l5 : Int32) (H : Heap) (locs : List Loc) (ls : Array Slot), mI w A x s.heap H locs → lv_has ls 9 [(0, .ref (w.2.2.1 28)), (1, .int l1), (2, .int l2), (3, .long l3), (5, .int l5)] → k7 x l1 l2 l3 l5 = some (r, xr) → W p l e rmM_leastBy s m args below meth c H locs 0 0 (MQ below (mQ w A (some (.long r)) xr) args s 0 0 A) (F0 m 7 ls [])) : ∀ (x : MS) (l1 : Int32) (l2 : Int32) (l6 : Int32) (s0 : Int64) (H : Heap) (locs : List Loc) (ls : Array Slot), mI w A x s.heap H locs → lv_has ls 9 [(0, .ref (w.2.2.1 28)), (1, .int l1), (2, .int l2), (6, .int l6)] → fM_leastBy_b52 N k7 x l1 l2 l6 s0 = some (r, xr) → W p l e rmM_leastBy s m args below meth c H locs 0 0 (MQ below (mQ w A (some (.long r)) xr) args s 0 0 A) (F0 m 52 ls [.long s0]) := by
  have hx := C.1.1
  have hb := C.1.2.1
  have hown := C.1.2.2.2.1
  have hts := C.1.2.2.2.2.1
  have hE := C.2.2
  intro x l1 l2 l6 s0 H locs ls hI hl hf
  rw [fM_leastBy_b52] at hf
  refine lv_lstore_n (lv' := [(3, .long s0), (0, .ref (w.2.2.1 28)), (1, .int l1), (2, .int l2), (6, .int l6)]) hx hb dX3_leastBy_52 rfl hl (by decide) rfl (fun ls hl => ?_)
  refine lv_iload hx hb dX3_leastBy_53 (lv_at hl 4 rfl) ?_
  refine lv_aload_n hx hb dX3_leastBy_55 rfl (lv_at hl 1 rfl) ?_
  refine mg0 C hI dX3_leastBy_56 ?_
  refine lv_bipush (v := 88) hx hb dX3_leastBy_59 (by decide) ?_
  refine mac0 C hI rc1725_88 dX3_leastBy_61 ?_
  refine lv_iconst (v := 1) hx hb dX3_leastBy_62 (by decide) ?_
  refine lv_isub hx hb dX3_leastBy_63 ?_
  refine b_icne (tgt := 77) hx hb hf dX3_leastBy_64 (by decide) (fun hf => ?_) (fun hf => ?_)
  · refine lv_iload hx hb dX3_leastBy_77 (lv_at hl 4 rfl) ?_
    refine lv_istore (lv' := [(5, .int l6), (3, .long s0), (0, .ref (w.2.2.1 28)), (1, .int l1), (2, .int l2), (6, .int l6)]) hx hb dX3_leastBy_79 hl (by decide) rfl (fun ls hl => ?_)
    refine lv_goto (tgt := 7) hx hb dX3_leastBy_81 (by decide) ?_
    exact hk7 x l1 l2 s0 l6 _ _ _ hI (lv_sub hl [2, 3, 4, 1, 0] rfl) hf
  · refine lv_aload_n hx hb dX3_leastBy_67 rfl (lv_at hl 1 rfl) ?_
    refine mg0 C hI dX3_leastBy_68 ?_
    refine lv_bipush (v := 88) hx hb dX3_leastBy_71 (by decide) ?_
    refine mac0 C hI rc1725_88 dX3_leastBy_73 ?_
    refine lv_goto (tgt := 79) hx hb dX3_leastBy_74 (by decide) ?_
    refine lv_istore (lv' := [(5, .int (gA x 0 88)), (3, .long s0), (0, .ref (w.2.2.1 28)), (1, .int l1), (2, .int l2), (6, .int l6)]) hx hb dX3_leastBy_79 hl (by decide) rfl (fun ls hl => ?_)
    refine lv_goto (tgt := 7) hx hb dX3_leastBy_81 (by decide) ?_
    exact hk7 x l1 l2 s0 (gA x 0 88) _ _ _ hI (lv_sub hl [2, 3, 4, 1, 0] rfl) hf
def fM_leastBy_b7 (N : Nat) : Nat → MS → Int32 → Int32 → Int64 → Int32 → Option (Int64 × MS)
  | 0, _, _, _, _, _ => none
  | n + 1, x, l1, l2, l3, l5 =>
  if (gA x 0 88) ≤ l5 then
    some (l3, x)
  else
    b2 (fM_endOf N x l5 l1) fun v2 x1 =>
    b2 (fM_allBy N x1 l5 v2 l2) fun v4 x3 =>
    if 0 ≤ (lg_cmp v4 l3) then
      fM_leastBy_b52 N (fM_leastBy_b7 N n) x3 l1 l2 v2 l3
    else
      fM_leastBy_b52 N (fM_leastBy_b7 N n) x3 l1 l2 v2 v4
theorem w_fM_leastBy_b7 {N : Nat} {r : Int64} {xr : MS} (C : mC w A p s m args meth c cX3_leastBy 9 (some .long)) : ∀ (n : Nat) (x : MS) (l1 : Int32) (l2 : Int32) (l3 : Int64) (l5 : Int32) (H : Heap) (locs : List Loc) (ls : Array Slot), mI w A x s.heap H locs → lv_has ls 9 [(0, .ref (w.2.2.1 28)), (1, .int l1), (2, .int l2), (3, .long l3), (5, .int l5)] → fM_leastBy_b7 N n x l1 l2 l3 l5 = some (r, xr) → W p l e rmM_leastBy s m args below meth c H locs 0 0 (MQ below (mQ w A (some (.long r)) xr) args s 0 0 A) (F0 m 7 ls []) := by
  have hx := C.1.1
  have hb := C.1.2.1
  have hown := C.1.2.2.2.1
  have hts := C.1.2.2.2.2.1
  have hE := C.2.2
  intro n
  induction n with
  | zero => intro x l1 l2 l3 l5 H locs ls hI hl hf; rw [fM_leastBy_b7] at hf; cases hf
  | succ n ih =>
  intro x l1 l2 l3 l5 H locs ls hI hl hf
  rw [fM_leastBy_b7] at hf
  refine lv_iload hx hb dX3_leastBy_7 (lv_at hl 4 rfl) ?_
  refine lv_aload_n hx hb dX3_leastBy_9 rfl (lv_at hl 0 rfl) ?_
  refine mg0 C hI dX3_leastBy_10 ?_
  refine lv_bipush (v := 88) hx hb dX3_leastBy_13 (by decide) ?_
  refine mac0 C hI rc1725_88 dX3_leastBy_15 ?_
  refine b_icge (tgt := 84) hx hb hf dX3_leastBy_16 (by decide) (fun hf => ?_) (fun hf => ?_)
  · refine lv_lload_n hx hb dX3_leastBy_84 rfl (lv_at hl 3 rfl) ?_
    exact m_lret C hI hf dX3_leastBy_85
  · refine lv_aload_n hx hb dX3_leastBy_19 rfl (lv_at hl 0 rfl) ?_
    refine lv_iload hx hb dX3_leastBy_20 (lv_at hl 4 rfl) ?_
    refine lv_iload_n hx hb dX3_leastBy_22 rfl (lv_at hl 1 rfl) ?_
    refine m_calli (rest := []) C hI hf (mm_endOf l N _ _ _) rfl cqM_endOf ⟨rfl, rfl⟩ ⟨Nat.le_of_ble_eq_true rfl, Nat.le_of_ble_eq_true rfl⟩ rfl hl.1 rfl (Nat.le_of_ble_eq_true rfl) dX3_leastBy_23 (fun v2 x1 H locs hI hf => ?_)
    refine lv_istore (lv' := [(6, .int v2), (0, .ref (w.2.2.1 28)), (1, .int l1), (2, .int l2), (3, .long l3), (5, .int l5)]) hx hb dX3_leastBy_26 hl (by decide) rfl (fun ls hl => ?_)
    refine lv_aload_n hx hb dX3_leastBy_28 rfl (lv_at hl 1 rfl) ?_
    refine lv_iload hx hb dX3_leastBy_29 (lv_at hl 5 rfl) ?_
    refine lv_iload hx hb dX3_leastBy_31 (lv_at hl 0 rfl) ?_
    refine lv_iload_n hx hb dX3_leastBy_33 rfl (lv_at hl 3 rfl) ?_
    refine m_calll (rest := []) C hI hf (mm_allBy l N _ _ _ _) rfl cqM_allBy ⟨rfl, rfl⟩ ⟨Nat.le_of_ble_eq_true rfl, Nat.le_of_ble_eq_true rfl⟩ rfl hl.1 rfl (Nat.le_of_ble_eq_true rfl) dX3_leastBy_34 (fun v4 x3 H locs hI hf => ?_)
    refine lv_lstore (lv' := [(7, .long v4), (6, .int v2), (0, .ref (w.2.2.1 28)), (1, .int l1), (2, .int l2), (3, .long l3), (5, .int l5)]) hx hb dX3_leastBy_37 hl (by decide) rfl (fun ls hl => ?_)
    refine lv_lload hx hb dX3_leastBy_39 (lv_at hl 0 rfl) ?_
    refine lv_lload_n hx hb dX3_leastBy_41 rfl (lv_at hl 5 rfl) ?_
    refine W.lcmp hx hb dX3_leastBy_42 ?_
    refine b_ifge (tgt := 51) hx hb hf dX3_leastBy_43 (by decide) (fun hf => ?_) (fun hf => ?_)
    · refine lv_lload_n hx hb dX3_leastBy_51 rfl (lv_at hl 5 rfl) ?_
      exact w_fM_leastBy_b52 C ih x3 l1 l2 v2 l3 _ _ _ hI (lv_sub hl [2, 3, 4, 1] rfl) hf
    · refine lv_lload hx hb dX3_leastBy_46 (lv_at hl 0 rfl) ?_
      refine lv_goto (tgt := 52) hx hb dX3_leastBy_48 (by decide) ?_
      exact w_fM_leastBy_b52 C ih x3 l1 l2 v2 v4 _ _ _ hI (lv_sub hl [2, 3, 4, 1] rfl) hf
def fM_leastBy (N : Nat) (x : MS) (l1 : Int32) (l2 : Int32) : Option (Int64 × MS) :=
  fM_leastBy_b7 N N x l1 l2 1000000 0
theorem mm_leastBy (l : Launch) (N : Nat) {w : mO} {A : Nat → Prop} : ∀ (x : MS) (l1 : Int32) (l2 : Int32) (r : Int64) (xr : MS), fM_leastBy N x l1 l2 = some (r, xr) → mMet l yX3_leastBy (ws_ yX3_leastBy cX3_leastBy 9 (some .long)) rmM_leastBy [.ref (w.2.2.1 28), .int l1, .int l2] w A x (some (.long r)) xr := by
  intro x l1 l2 r xr hf
  refine m_start (cc := cX3_leastBy) (by decide +kernel) rfl (Nat.le_of_ble_eq_true rfl) rfl ?_
  intro p e s m args below meth c ls H locs C hI hl
  have hx := C.1.1
  have hb := C.1.2.1
  have hown := C.1.2.2.2.1
  have hts := C.1.2.2.2.2.1
  have hE := C.2.2
  rw [fM_leastBy] at hf
  refine lv_ldc2 hx hb hown (hts _ q1865) dX3_leastBy_0 ?_
  refine lv_lstore_n (lv' := [(3, .long 1000000), (0, .ref (w.2.2.1 28)), (1, .int l1), (2, .int l2)]) hx hb dX3_leastBy_3 rfl hl (by decide) rfl (fun ls hl => ?_)
  refine lv_iconst (v := 0) hx hb dX3_leastBy_4 (by decide) ?_
  refine lv_istore (lv' := [(5, .int 0), (3, .long 1000000), (0, .ref (w.2.2.1 28)), (1, .int l1), (2, .int l2)]) hx hb dX3_leastBy_5 hl (by decide) rfl (fun ls hl => ?_)
  exact w_fM_leastBy_b7 C N x l1 l2 1000000 0 _ _ _ hI (lv_sub hl [2, 3, 4, 1, 0] rfl) hf
/-! split(II)I -/
abbrev rmM_split : Room := { frames := 8, cells := 0, slots := 0, locals := 192 }
def fM_split_b72 (N : Nat) (k31 : MS → Int32 → Int32 → Int32 → Int64 → Int32 → Option (Int32 × MS)) (x : MS) (l1 : Int32) (l2 : Int32) (l3 : Int32) (l4 : Int64) (l6 : Int32) (s0 : Int64) : Option (Int32 × MS) :=
  if 0 < (lg_cmp s0 l4) then
    k31 x l1 l2 l6 s0 (l6 + 1)
  else
    k31 x l1 l2 l3 l4 (l6 + 1)
theorem w_fM_split_b72 {N : Nat} {r : Int32} {xr : MS} {k31 : MS → Int32 → Int32 → Int32 → Int64 → Int32 → Option (Int32 × MS)} (C : mC w A p s m args meth c cX3_split 9 (some .int)) (hk31 : ∀ (x : MS) (l1 : Int32) (l2 : Int32) (l3 : Int32) (l4 : Int64) (l6 : Int32) (H : Heap) (locs : List Loc) (ls : Array Slot), mI w A x s.heap H locs → lv_has ls 9 [(0, .ref (w.2.2.1 28)), (1, .int l1), (2, .int l2), (3, .int l3), (4, .long l4), (6, .int l6)] → k31 x l1 l2 l3 l4 l6 = some (r, xr) → W p l e rmM_split s m args below meth c H locs 0 0 (MQ below (mQ w A (some (.int r)) xr) args s 0 0 A) (F0 m 31 ls [])) : ∀ (x : MS) (l1 : Int32) (l2 : Int32) (l3 : Int32) (l4 : Int64) (l6 : Int32) (s0 : Int64) (H : Heap) (locs : List Loc) (ls : Array Slot), mI w A x s.heap H locs → lv_has ls 9 [(0, .ref (w.2.2.1 28)), (1, .int l1), (2, .int l2), (3, .int l3), (4, .long l4), (6, .int l6)] → fM_split_b72 N k31 x l1 l2 l3 l4 l6 s0 = some (r, xr) → W p l e rmM_split s m args below meth c H locs 0 0 (MQ below (mQ w A (some (.int r)) xr) args s 0 0 A) (F0 m 72 ls [.long s0]) := by
  have hx := C.1.1
  have hb := C.1.2.1
  have hown := C.1.2.2.2.1
  have hts := C.1.2.2.2.2.1
  have hE := C.2.2
  intro x l1 l2 l3 l4 l6 s0 H locs ls hI hl hf
  rw [fM_split_b72] at hf
  refine lv_lstore (lv' := [(7, .long s0), (0, .ref (w.2.2.1 28)), (1, .int l1), (2, .int l2), (3, .int l3), (4, .long l4), (6, .int l6)]) hx hb dX3_split_72 hl (by decide) rfl (fun ls hl => ?_)
  refine lv_lload hx hb dX3_split_74 (lv_at hl 0 rfl) ?_
  refine lv_lload hx hb dX3_split_76 (lv_at hl 5 rfl) ?_
  refine W.lcmp hx hb dX3_split_78 ?_
  refine b_ifgt (tgt := 85) hx hb hf dX3_split_79 (by decide) (fun hf => ?_) (fun hf => ?_)
  · refine lv_lload hx hb dX3_split_85 (lv_at hl 0 rfl) ?_
    refine lv_lstore (lv' := [(4, .long s0), (7, .long s0), (0, .ref (w.2.2.1 28)), (1, .int l1), (2, .int l2), (3, .int l3), (6, .int l6)]) hx hb dX3_split_87 hl (by decide) rfl (fun ls hl => ?_)
    refine lv_iload hx hb dX3_split_89 (lv_at hl 6 rfl) ?_
    refine lv_istore_n (lv' := [(3, .int l6), (4, .long s0), (7, .long s0), (0, .ref (w.2.2.1 28)), (1, .int l1), (2, .int l2), (6, .int l6)]) hx hb dX3_split_91 rfl hl (by decide) rfl (fun ls hl => ?_)
    refine lv_iinc (v := l6 + 1) (lv' := [(6, .int (l6 + 1)), (3, .int l6), (4, .long s0), (7, .long s0), (0, .ref (w.2.2.1 28)), (1, .int l1), (2, .int l2)]) hx hb dX3_split_92 hl (k := 6) rfl rfl (by decide) rfl (fun ls hl => ?_)
    refine lv_goto (tgt := 31) hx hb dX3_split_95 (by decide) ?_
    exact hk31 x l1 l2 l6 s0 (l6 + 1) _ _ _ hI (lv_sub hl [4, 5, 6, 1, 2, 0] rfl) hf
  · refine lv_goto (tgt := 92) hx hb dX3_split_82 (by decide) ?_
    refine lv_iinc (v := l6 + 1) (lv' := [(6, .int (l6 + 1)), (7, .long s0), (0, .ref (w.2.2.1 28)), (1, .int l1), (2, .int l2), (3, .int l3), (4, .long l4)]) hx hb dX3_split_92 hl (k := 6) rfl rfl (by decide) rfl (fun ls hl => ?_)
    refine lv_goto (tgt := 31) hx hb dX3_split_95 (by decide) ?_
    exact hk31 x l1 l2 l3 l4 (l6 + 1) _ _ _ hI (lv_sub hl [2, 3, 4, 5, 6, 0] rfl) hf
def fM_split_b31 (N : Nat) : Nat → MS → Int32 → Int32 → Int32 → Int64 → Int32 → Option (Int32 × MS)
  | 0, _, _, _, _, _, _ => none
  | n + 1, x, l1, l2, l3, l4, l6 =>
  if (gA x 0 88) ≤ l6 then
    if l3 = (-1) then
      some (l3, x)
    else
      if l2 = 0 then
        some (l3, x)
      else
        some (l4.toInt32, x)
  else
    b2 (fM_canBridge N x l6) fun v2 x1 =>
    if v2 = 0 then
      fM_split_b72 N (fM_split_b31 N n) x1 l1 l2 l3 l4 l6 (-1)
    else
      b2 (fM_bridgedOnes N x1) fun v4 x3 =>
      b2 (fM_leastBy N x3 (v4 ||| (1 <<< (l6 &&& 31))) l1) fun v6 x5 =>
      fM_split_b72 N (fM_split_b31 N n) x5 l1 l2 l3 l4 l6 v6
theorem w_fM_split_b31 {N : Nat} {r : Int32} {xr : MS} (C : mC w A p s m args meth c cX3_split 9 (some .int)) : ∀ (n : Nat) (x : MS) (l1 : Int32) (l2 : Int32) (l3 : Int32) (l4 : Int64) (l6 : Int32) (H : Heap) (locs : List Loc) (ls : Array Slot), mI w A x s.heap H locs → lv_has ls 9 [(0, .ref (w.2.2.1 28)), (1, .int l1), (2, .int l2), (3, .int l3), (4, .long l4), (6, .int l6)] → fM_split_b31 N n x l1 l2 l3 l4 l6 = some (r, xr) → W p l e rmM_split s m args below meth c H locs 0 0 (MQ below (mQ w A (some (.int r)) xr) args s 0 0 A) (F0 m 31 ls []) := by
  have hx := C.1.1
  have hb := C.1.2.1
  have hown := C.1.2.2.2.1
  have hts := C.1.2.2.2.2.1
  have hE := C.2.2
  intro n
  induction n with
  | zero => intro x l1 l2 l3 l4 l6 H locs ls hI hl hf; rw [fM_split_b31] at hf; cases hf
  | succ n ih =>
  intro x l1 l2 l3 l4 l6 H locs ls hI hl hf
  rw [fM_split_b31] at hf
  refine lv_iload hx hb dX3_split_31 (lv_at hl 5 rfl) ?_
  refine lv_aload_n hx hb dX3_split_33 rfl (lv_at hl 0 rfl) ?_
  refine mg0 C hI dX3_split_34 ?_
  refine lv_bipush (v := 88) hx hb dX3_split_37 (by decide) ?_
  refine mac0 C hI rc1725_88 dX3_split_39 ?_
  refine b_icge (tgt := 98) hx hb hf dX3_split_40 (by decide) (fun hf => ?_) (fun hf => ?_)
  · refine lv_iload_n hx hb dX3_split_98 rfl (lv_at hl 3 rfl) ?_
    refine lv_iconst (v := (-1)) hx hb dX3_split_99 (by decide) ?_
    refine b_iceq (tgt := 107) hx hb hf dX3_split_100 (by decide) (fun hf => ?_) (fun hf => ?_)
    · refine lv_iload_n hx hb dX3_split_107 rfl (lv_at hl 3 rfl) ?_
      refine lv_goto (tgt := 114) hx hb dX3_split_108 (by decide) ?_
      exact m_iret C hI hf dX3_split_114
    · refine lv_iload_n hx hb dX3_split_103 rfl (lv_at hl 2 rfl) ?_
      refine b_ifne (tgt := 111) hx hb hf dX3_split_104 (by decide) (fun hf => ?_) (fun hf => ?_)
      · refine lv_lload hx hb dX3_split_111 (lv_at hl 4 rfl) ?_
        refine lv_l2i (v := l4.toInt32) hx hb dX3_split_113 rfl ?_
        exact m_iret C hI hf dX3_split_114
      · refine lv_iload_n hx hb dX3_split_107 rfl (lv_at hl 3 rfl) ?_
        refine lv_goto (tgt := 114) hx hb dX3_split_108 (by decide) ?_
        exact m_iret C hI hf dX3_split_114
  · refine lv_aload_n hx hb dX3_split_43 rfl (lv_at hl 0 rfl) ?_
    refine lv_iload hx hb dX3_split_44 (lv_at hl 5 rfl) ?_
    refine m_calli (rest := []) C hI hf (mm_canBridge l N _ _) rfl cqM_canBridge ⟨rfl, rfl⟩ ⟨Nat.le_of_ble_eq_true rfl, Nat.le_of_ble_eq_true rfl⟩ rfl hl.1 rfl (Nat.le_of_ble_eq_true rfl) dX3_split_46 (fun v2 x1 H locs hI hf => ?_)
    refine b_ifeq (tgt := 69) hx hb hf dX3_split_49 (by decide) (fun hf => ?_) (fun hf => ?_)
    · refine lv_ldc2 hx hb hown (hts _ q1900) dX3_split_69 ?_
      exact w_fM_split_b72 C ih x1 l1 l2 l3 l4 l6 (-1) _ _ _ hI (lv_sub hl [0, 1, 2, 3, 4, 5] rfl) hf
    · refine lv_aload_n hx hb dX3_split_52 rfl (lv_at hl 0 rfl) ?_
      refine lv_aload_n hx hb dX3_split_53 rfl (lv_at hl 0 rfl) ?_
      refine m_calli (rest := [.ref (w.2.2.1 28)]) C hI hf (mm_bridgedOnes l N _) rfl cqM_bridgedOnes ⟨rfl, rfl⟩ ⟨Nat.le_of_ble_eq_true rfl, Nat.le_of_ble_eq_true rfl⟩ rfl hl.1 rfl (Nat.le_of_ble_eq_true rfl) dX3_split_54 (fun v4 x3 H locs hI hf => ?_)
      refine lv_iconst (v := 1) hx hb dX3_split_57 (by decide) ?_
      refine lv_iload hx hb dX3_split_58 (lv_at hl 5 rfl) ?_
      refine lv_ishl hx hb dX3_split_60 ?_
      refine lv_ior hx hb dX3_split_61 ?_
      refine lv_iload_n hx hb dX3_split_62 rfl (lv_at hl 1 rfl) ?_
      refine m_calll (rest := []) C hI hf (mm_leastBy l N _ _ _) rfl cqM_leastBy ⟨rfl, rfl⟩ ⟨Nat.le_of_ble_eq_true rfl, Nat.le_of_ble_eq_true rfl⟩ rfl hl.1 rfl (Nat.le_of_ble_eq_true rfl) dX3_split_63 (fun v6 x5 H locs hI hf => ?_)
      refine lv_goto (tgt := 72) hx hb dX3_split_66 (by decide) ?_
      exact w_fM_split_b72 C ih x5 l1 l2 l3 l4 l6 v6 _ _ _ hI (lv_sub hl [0, 1, 2, 3, 4, 5] rfl) hf
def fM_split (N : Nat) (x : MS) (l1 : Int32) (l2 : Int32) : Option (Int32 × MS) :=
  (fM_isIn N l1 1 60).bind fun v1 =>
  if v1 = 0 then
    some ((-1), x)
  else
    (fM_isIn N l2 0 1).bind fun v2 =>
    if v2 = 0 then
      some ((-1), x)
    else
      fM_split_b31 N N x l1 l2 (-1) (-1) 0
theorem mm_split (l : Launch) (N : Nat) {w : mO} {A : Nat → Prop} : ∀ (x : MS) (l1 : Int32) (l2 : Int32) (r : Int32) (xr : MS), fM_split N x l1 l2 = some (r, xr) → mMet l yX3_split (ws_ yX3_split cX3_split 9 (some .int)) rmM_split [.ref (w.2.2.1 28), .int l1, .int l2] w A x (some (.int r)) xr := by
  intro x l1 l2 r xr hf
  refine m_start (cc := cX3_split) (by decide +kernel) rfl (Nat.le_of_ble_eq_true rfl) rfl ?_
  intro p e s m args below meth c ls H locs C hI hl
  have hx := C.1.1
  have hb := C.1.2.1
  have hown := C.1.2.2.2.1
  have hts := C.1.2.2.2.2.1
  have hE := C.2.2
  rw [fM_split] at hf
  refine lv_iload_n hx hb dX3_split_0 rfl (lv_at hl 1 rfl) ?_
  refine lv_iconst (v := 1) hx hb dX3_split_1 (by decide) ?_
  refine lv_bipush (v := 60) hx hb dX3_split_2 (by decide) ?_
  refine g_calliS (rest := []) C.1 hf (smM_isIn l N _ _ _) cqM_M_isIn ⟨rfl, rfl⟩ ⟨Nat.le_of_ble_eq_true rfl, Nat.le_of_ble_eq_true rfl⟩ rfl hl.1 rfl (Nat.le_of_ble_eq_true rfl) ⟨Nat.zero_le _, Nat.zero_le _⟩ dX3_split_4 (fun v1 hf => ?_)
  refine b_ifeq (tgt := 19) hx hb hf dX3_split_7 (by decide) (fun hf => ?_) (fun hf => ?_)
  · refine lv_iconst (v := (-1)) hx hb dX3_split_19 (by decide) ?_
    exact m_iret C hI hf dX3_split_20
  · refine lv_iload_n hx hb dX3_split_10 rfl (lv_at hl 2 rfl) ?_
    refine lv_iconst (v := 0) hx hb dX3_split_11 (by decide) ?_
    refine lv_iconst (v := 1) hx hb dX3_split_12 (by decide) ?_
    refine g_calliS (rest := []) C.1 hf (smM_isIn l N _ _ _) cqM_M_isIn ⟨rfl, rfl⟩ ⟨Nat.le_of_ble_eq_true rfl, Nat.le_of_ble_eq_true rfl⟩ rfl hl.1 rfl (Nat.le_of_ble_eq_true rfl) ⟨Nat.zero_le _, Nat.zero_le _⟩ dX3_split_13 (fun v2 hf => ?_)
    refine b_ifne (tgt := 21) hx hb hf dX3_split_16 (by decide) (fun hf => ?_) (fun hf => ?_)
    · refine lv_iconst (v := (-1)) hx hb dX3_split_21 (by decide) ?_
      refine lv_istore_n (lv' := [(3, .int (-1)), (0, .ref (w.2.2.1 28)), (1, .int l1), (2, .int l2)]) hx hb dX3_split_22 rfl hl (by decide) rfl (fun ls hl => ?_)
      refine lv_ldc2 hx hb hown (hts _ q1900) dX3_split_23 ?_
      refine lv_lstore (lv' := [(4, .long (-1)), (3, .int (-1)), (0, .ref (w.2.2.1 28)), (1, .int l1), (2, .int l2)]) hx hb dX3_split_26 hl (by decide) rfl (fun ls hl => ?_)
      refine lv_iconst (v := 0) hx hb dX3_split_28 (by decide) ?_
      refine lv_istore (lv' := [(6, .int 0), (4, .long (-1)), (3, .int (-1)), (0, .ref (w.2.2.1 28)), (1, .int l1), (2, .int l2)]) hx hb dX3_split_29 hl (by decide) rfl (fun ls hl => ?_)
      exact w_fM_split_b31 C N x l1 l2 (-1) (-1) 0 _ _ _ hI (lv_sub hl [3, 4, 5, 2, 1, 0] rfl) hf
    · refine lv_iconst (v := (-1)) hx hb dX3_split_19 (by decide) ?_
      exact m_iret C hI hf dX3_split_20
