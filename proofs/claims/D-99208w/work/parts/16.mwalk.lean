set_option maxRecDepth 100000
variable {p : Program} {l : Launch} {e : Env} {R : Room} {s : State} {m : MethodId} {args : Array Value} {below : List Frame} {meth : Method} {c : Code} {H : Heap} {locs : List Loc} {Q : State → Prop}
variable {w : mO} {A : Nat → Prop}
/-! bridgeable()I -/
abbrev rmM_bridgeable : Room := { frames := 4, cells := 0, slots := 0, locals := 85 }
def fM_bridgeable_b4 (N : Nat) : Nat → MS → Int32 → Int32 → Option (Int32 × MS)
  | 0, _, _, _ => none
  | n + 1, x, l1, l2 =>
  if (gA x 0 88) ≤ l2 then
    some (l1, x)
  else
    b2 (fM_canBridge N x l2) fun v2 x1 =>
    lt (if v2 = 0 then 0 else 1 <<< (l2 &&& 31) : Int32) fun v3 =>
    fM_bridgeable_b4 N n x1 (l1 ||| v3) (l2 + 1)
theorem w_fM_bridgeable_b4 {N : Nat} {r : Int32} {xr : MS} (C : mC w A p s m args meth c cX3_bridgeable 3 (some .int)) : ∀ (n : Nat) (x : MS) (l1 : Int32) (l2 : Int32) (H : Heap) (locs : List Loc) (ls : Array Slot), mI w A x s.heap H locs → lv_has ls 3 [(0, .ref (w.2.2.1 28)), (1, .int l1), (2, .int l2)] → fM_bridgeable_b4 N n x l1 l2 = some (r, xr) → W p l e rmM_bridgeable s m args below meth c H locs 0 0 (MQ below (mQ w A (some (.int r)) xr) args s 0 0 A) (F0 m 4 ls []) := by
  have hx := C.1.1
  have hb := C.1.2.1
  have hown := C.1.2.2.2.1
  have hts := C.1.2.2.2.2.1
  have hE := C.2.2
  intro n
  induction n with
  | zero => intro x l1 l2 H locs ls hI hl hf; rw [fM_bridgeable_b4] at hf; cases hf
  | succ n ih =>
  intro x l1 l2 H locs ls hI hl hf
  rw [fM_bridgeable_b4] at hf
  refine lv_iload_n hx hb dX3_bridgeable_4 rfl (lv_at hl 2 rfl) ?_
  refine lv_aload_n hx hb dX3_bridgeable_5 rfl (lv_at hl 0 rfl) ?_
  refine mg0 C hI dX3_bridgeable_6 ?_
  refine lv_bipush (v := 88) hx hb dX3_bridgeable_9 (by decide) ?_
  refine mac0 C hI rc1725_88 dX3_bridgeable_11 ?_
  refine b_icge (tgt := 39) hx hb hf dX3_bridgeable_12 (by decide) (fun hf => ?_) (fun hf => ?_)
  · refine lv_iload_n hx hb dX3_bridgeable_39 rfl (lv_at hl 1 rfl) ?_
    exact m_iret C hI hf dX3_bridgeable_40
  · refine lv_iload_n hx hb dX3_bridgeable_15 rfl (lv_at hl 1 rfl) ?_
    refine lv_aload_n hx hb dX3_bridgeable_16 rfl (lv_at hl 0 rfl) ?_
    refine lv_iload_n hx hb dX3_bridgeable_17 rfl (lv_at hl 2 rfl) ?_
    refine m_calli (rest := [.int l1]) C hI hf (mm_canBridge l N _ _) rfl cqM_canBridge ⟨rfl, rfl⟩ ⟨Nat.le_of_ble_eq_true rfl, Nat.le_of_ble_eq_true rfl⟩ rfl hl.1 rfl (Nat.le_of_ble_eq_true rfl) dX3_bridgeable_18 (fun v2 x1 H locs hI hf => ?_)
    suffices hJ : ∀ v3 : Int32, (v3 = (if v2 = 0 then 0 else 1 <<< (l2 &&& 31) : Int32)) → W p l e rmM_bridgeable s m args below meth c H locs 0 0 (MQ below (mQ w A (some (.int r)) xr) args s 0 0 A) (F0 m 31 ls [.int v3, .int l1]) by
      refine lv_if_eq (tgt := 30) hx hb dX3_bridgeable_21 (by decide) (fun hc => ?_) (fun hc => ?_)
      · refine lv_iconst (v := 0) hx hb dX3_bridgeable_30 (by decide) ?_
        exact hJ _ (if_pos hc).symm
      · refine lv_iconst (v := 1) hx hb dX3_bridgeable_24 (by decide) ?_
        refine lv_iload_n hx hb dX3_bridgeable_25 rfl (lv_at hl 2 rfl) ?_
        refine lv_ishl hx hb dX3_bridgeable_26 ?_
        refine lv_goto (tgt := 31) hx hb dX3_bridgeable_27 (by decide) ?_
        exact hJ _ (if_neg hc).symm
    intro v3 hv
    have hf := lt_of hv hf
    refine lv_ior hx hb dX3_bridgeable_31 ?_
    refine lv_istore_n (lv' := [(1, .int (l1 ||| v3)), (0, .ref (w.2.2.1 28)), (2, .int l2)]) hx hb dX3_bridgeable_32 rfl hl (by decide) rfl (fun ls hl => ?_)
    refine lv_iinc (v := l2 + 1) (lv' := [(2, .int (l2 + 1)), (1, .int (l1 ||| v3)), (0, .ref (w.2.2.1 28))]) hx hb dX3_bridgeable_33 hl (k := 2) rfl rfl (by decide) rfl (fun ls hl => ?_)
    refine lv_goto (tgt := 4) hx hb dX3_bridgeable_36 (by decide) ?_
    exact ih x1 (l1 ||| v3) (l2 + 1) _ _ _ hI (lv_sub hl [2, 1, 0] rfl) hf
def fM_bridgeable (N : Nat) (x : MS) : Option (Int32 × MS) :=
  fM_bridgeable_b4 N N x 0 0
theorem mm_bridgeable (l : Launch) (N : Nat) {w : mO} {A : Nat → Prop} : ∀ (x : MS) (r : Int32) (xr : MS), fM_bridgeable N x  = some (r, xr) → mMet l yX3_bridgeable (ws_ yX3_bridgeable cX3_bridgeable 3 (some .int)) rmM_bridgeable [.ref (w.2.2.1 28)] w A x (some (.int r)) xr := by
  intro x  r xr hf
  refine m_start (cc := cX3_bridgeable) (by decide +kernel) rfl (Nat.le_of_ble_eq_true rfl) rfl ?_
  intro p e s m args below meth c ls H locs C hI hl
  have hx := C.1.1
  have hb := C.1.2.1
  have hown := C.1.2.2.2.1
  have hts := C.1.2.2.2.2.1
  have hE := C.2.2
  rw [fM_bridgeable] at hf
  refine lv_iconst (v := 0) hx hb dX3_bridgeable_0 (by decide) ?_
  refine lv_istore_n (lv' := [(1, .int 0), (0, .ref (w.2.2.1 28))]) hx hb dX3_bridgeable_1 rfl hl (by decide) rfl (fun ls hl => ?_)
  refine lv_iconst (v := 0) hx hb dX3_bridgeable_2 (by decide) ?_
  refine lv_istore_n (lv' := [(2, .int 0), (1, .int 0), (0, .ref (w.2.2.1 28))]) hx hb dX3_bridgeable_3 rfl hl (by decide) rfl (fun ls hl => ?_)
  exact w_fM_bridgeable_b4 C N x 0 0 _ _ _ hI (lv_sub hl [2, 1, 0] rfl) hf
/-! costsOf(I)I -/
abbrev rmM_costsOf : Room := { frames := 5, cells := 0, slots := 0, locals := 116 }
def fM_costsOf_b4 (N : Nat) : Nat → MS → Int32 → Int32 → Int32 → Option (Int32 × MS)
  | 0, _, _, _, _ => none
  | n + 1, x, l1, l2, l3 =>
  if (gA x 0 88) ≤ l3 then
    some (l2, x)
  else
    if ((l1 >>> (l3 &&& 31)) &&& 1) = 1 then
      b2 (fM_costOf N x l3) fun v2 x1 =>
      fM_costsOf_b4 N n x1 l1 (l2 + v2) (l3 + 1)
    else
      fM_costsOf_b4 N n x l1 (l2 + 0) (l3 + 1)
theorem w_fM_costsOf_b4 {N : Nat} {r : Int32} {xr : MS} (C : mC w A p s m args meth c cX3_costsOf 4 (some .int)) : ∀ (n : Nat) (x : MS) (l1 : Int32) (l2 : Int32) (l3 : Int32) (H : Heap) (locs : List Loc) (ls : Array Slot), mI w A x s.heap H locs → lv_has ls 4 [(0, .ref (w.2.2.1 28)), (1, .int l1), (2, .int l2), (3, .int l3)] → fM_costsOf_b4 N n x l1 l2 l3 = some (r, xr) → W p l e rmM_costsOf s m args below meth c H locs 0 0 (MQ below (mQ w A (some (.int r)) xr) args s 0 0 A) (F0 m 4 ls []) := by
  have hx := C.1.1
  have hb := C.1.2.1
  have hown := C.1.2.2.2.1
  have hts := C.1.2.2.2.2.1
  have hE := C.2.2
  intro n
  induction n with
  | zero => intro x l1 l2 l3 H locs ls hI hl hf; rw [fM_costsOf_b4] at hf; cases hf
  | succ n ih =>
  intro x l1 l2 l3 H locs ls hI hl hf
  rw [fM_costsOf_b4] at hf
  refine lv_iload_n hx hb dX3_costsOf_4 rfl (lv_at hl 3 rfl) ?_
  refine lv_aload_n hx hb dX3_costsOf_5 rfl (lv_at hl 0 rfl) ?_
  refine mg0 C hI dX3_costsOf_6 ?_
  refine lv_bipush (v := 88) hx hb dX3_costsOf_9 (by decide) ?_
  refine mac0 C hI rc1725_88 dX3_costsOf_11 ?_
  refine b_icge (tgt := 42) hx hb hf dX3_costsOf_12 (by decide) (fun hf => ?_) (fun hf => ?_)
  · refine lv_iload_n hx hb dX3_costsOf_42 rfl (lv_at hl 2 rfl) ?_
    exact m_iret C hI hf dX3_costsOf_43
  · refine lv_iload_n hx hb dX3_costsOf_15 rfl (lv_at hl 2 rfl) ?_
    refine lv_iload_n hx hb dX3_costsOf_16 rfl (lv_at hl 1 rfl) ?_
    refine lv_iload_n hx hb dX3_costsOf_17 rfl (lv_at hl 3 rfl) ?_
    refine lv_ishr hx hb dX3_costsOf_18 ?_
    refine lv_iconst (v := 1) hx hb dX3_costsOf_19 (by decide) ?_
    refine lv_iand hx hb dX3_costsOf_20 ?_
    refine lv_iconst (v := 1) hx hb dX3_costsOf_21 (by decide) ?_
    refine b_icne (tgt := 33) hx hb hf dX3_costsOf_22 (by decide) (fun hf => ?_) (fun hf => ?_)
    · refine lv_iconst (v := 0) hx hb dX3_costsOf_33 (by decide) ?_
      refine lv_iadd hx hb dX3_costsOf_34 ?_
      refine lv_istore_n (lv' := [(2, .int (l2 + 0)), (0, .ref (w.2.2.1 28)), (1, .int l1), (3, .int l3)]) hx hb dX3_costsOf_35 rfl hl (by decide) rfl (fun ls hl => ?_)
      refine lv_iinc (v := l3 + 1) (lv' := [(3, .int (l3 + 1)), (2, .int (l2 + 0)), (0, .ref (w.2.2.1 28)), (1, .int l1)]) hx hb dX3_costsOf_36 hl (k := 3) rfl rfl (by decide) rfl (fun ls hl => ?_)
      refine lv_goto (tgt := 4) hx hb dX3_costsOf_39 (by decide) ?_
      exact ih x l1 (l2 + 0) (l3 + 1) _ _ _ hI (lv_sub hl [2, 3, 1, 0] rfl) hf
    · refine lv_aload_n hx hb dX3_costsOf_25 rfl (lv_at hl 0 rfl) ?_
      refine lv_iload_n hx hb dX3_costsOf_26 rfl (lv_at hl 3 rfl) ?_
      refine m_calli (rest := [.int l2]) C hI hf (mm_costOf l N _ _) rfl cqM_costOf ⟨rfl, rfl⟩ ⟨Nat.le_of_ble_eq_true rfl, Nat.le_of_ble_eq_true rfl⟩ rfl hl.1 rfl (Nat.le_of_ble_eq_true rfl) dX3_costsOf_27 (fun v2 x1 H locs hI hf => ?_)
      refine lv_goto (tgt := 34) hx hb dX3_costsOf_30 (by decide) ?_
      refine lv_iadd hx hb dX3_costsOf_34 ?_
      refine lv_istore_n (lv' := [(2, .int (l2 + v2)), (0, .ref (w.2.2.1 28)), (1, .int l1), (3, .int l3)]) hx hb dX3_costsOf_35 rfl hl (by decide) rfl (fun ls hl => ?_)
      refine lv_iinc (v := l3 + 1) (lv' := [(3, .int (l3 + 1)), (2, .int (l2 + v2)), (0, .ref (w.2.2.1 28)), (1, .int l1)]) hx hb dX3_costsOf_36 hl (k := 3) rfl rfl (by decide) rfl (fun ls hl => ?_)
      refine lv_goto (tgt := 4) hx hb dX3_costsOf_39 (by decide) ?_
      exact ih x1 l1 (l2 + v2) (l3 + 1) _ _ _ hI (lv_sub hl [2, 3, 1, 0] rfl) hf
def fM_costsOf (N : Nat) (x : MS) (l1 : Int32) : Option (Int32 × MS) :=
  fM_costsOf_b4 N N x l1 0 0
theorem mm_costsOf (l : Launch) (N : Nat) {w : mO} {A : Nat → Prop} : ∀ (x : MS) (l1 : Int32) (r : Int32) (xr : MS), fM_costsOf N x l1 = some (r, xr) → mMet l yX3_costsOf (ws_ yX3_costsOf cX3_costsOf 4 (some .int)) rmM_costsOf [.ref (w.2.2.1 28), .int l1] w A x (some (.int r)) xr := by
  intro x l1 r xr hf
  refine m_start (cc := cX3_costsOf) (by decide +kernel) rfl (Nat.le_of_ble_eq_true rfl) rfl ?_
  intro p e s m args below meth c ls H locs C hI hl
  have hx := C.1.1
  have hb := C.1.2.1
  have hown := C.1.2.2.2.1
  have hts := C.1.2.2.2.2.1
  have hE := C.2.2
  rw [fM_costsOf] at hf
  refine lv_iconst (v := 0) hx hb dX3_costsOf_0 (by decide) ?_
  refine lv_istore_n (lv' := [(2, .int 0), (0, .ref (w.2.2.1 28)), (1, .int l1)]) hx hb dX3_costsOf_1 rfl hl (by decide) rfl (fun ls hl => ?_)
  refine lv_iconst (v := 0) hx hb dX3_costsOf_2 (by decide) ?_
  refine lv_istore_n (lv' := [(3, .int 0), (2, .int 0), (0, .ref (w.2.2.1 28)), (1, .int l1)]) hx hb dX3_costsOf_3 rfl hl (by decide) rfl (fun ls hl => ?_)
  exact w_fM_costsOf_b4 C N x l1 0 0 _ _ _ hI (lv_sub hl [2, 3, 1, 0] rfl) hf
/-! bridges(III)I -/
abbrev rmM_bridges : Room := { frames := 8, cells := 0, slots := 0, locals := 192 }
def fM_bridges_b112 (N : Nat) (k44 : MS → Int32 → Int32 → Int32 → Int32 → Int32 → Int32 → Option (Int32 × MS)) (x : MS) (l1 : Int32) (l2 : Int32) (l3 : Int32) (l4 : Int32) (l5 : Int32) (l6 : Int32) : Option (Int32 × MS) :=
  b2 (fM_bridgedOnes N x) fun v2 x1 =>
  b2 (fM_leastBy N x1 (v2 ||| l6) l1) fun v4 x3 =>
  if 0 ≤ (lg_cmp v4 l2.toInt64) then
    k44 x3 l1 l2 l3 l4 l6 (l6 + 1)
  else
    k44 x3 l1 l2 l3 l4 l5 (l6 + 1)
theorem w_fM_bridges_b112 {N : Nat} {r : Int32} {xr : MS} {k44 : MS → Int32 → Int32 → Int32 → Int32 → Int32 → Int32 → Option (Int32 × MS)} (C : mC w A p s m args meth c cX3_bridges 8 (some .int)) (hk44 : ∀ (x : MS) (l1 : Int32) (l2 : Int32) (l3 : Int32) (l4 : Int32) (l5 : Int32) (l6 : Int32) (H : Heap) (locs : List Loc) (ls : Array Slot), mI w A x s.heap H locs → lv_has ls 8 [(0, .ref (w.2.2.1 28)), (1, .int l1), (2, .int l2), (3, .int l3), (4, .int l4), (5, .int l5), (6, .int l6)] → k44 x l1 l2 l3 l4 l5 l6 = some (r, xr) → W p l e rmM_bridges s m args below meth c H locs 0 0 (MQ below (mQ w A (some (.int r)) xr) args s 0 0 A) (F0 m 44 ls [])) : ∀ (x : MS) (l1 : Int32) (l2 : Int32) (l3 : Int32) (l4 : Int32) (l5 : Int32) (l6 : Int32) (H : Heap) (locs : List Loc) (ls : Array Slot), mI w A x s.heap H locs → lv_has ls 8 [(0, .ref (w.2.2.1 28)), (1, .int l1), (2, .int l2), (3, .int l3), (4, .int l4), (5, .int l5), (6, .int l6)] → fM_bridges_b112 N k44 x l1 l2 l3 l4 l5 l6 = some (r, xr) → W p l e rmM_bridges s m args below meth c H locs 0 0 (MQ below (mQ w A (some (.int r)) xr) args s 0 0 A) (F0 m 112 ls []) := by
  have hx := C.1.1
  have hb := C.1.2.1
  have hown := C.1.2.2.2.1
  have hts := C.1.2.2.2.2.1
  have hE := C.2.2
  intro x l1 l2 l3 l4 l5 l6 H locs ls hI hl hf
  rw [fM_bridges_b112] at hf
  refine lv_aload_n hx hb dX3_bridges_112 rfl (lv_at hl 0 rfl) ?_
  refine lv_aload_n hx hb dX3_bridges_113 rfl (lv_at hl 0 rfl) ?_
  refine m_calli (rest := [.ref (w.2.2.1 28)]) C hI hf (mm_bridgedOnes l N _) rfl cqM_bridgedOnes ⟨rfl, rfl⟩ ⟨Nat.le_of_ble_eq_true rfl, Nat.le_of_ble_eq_true rfl⟩ rfl hl.1 rfl (Nat.le_of_ble_eq_true rfl) dX3_bridges_114 (fun v2 x1 H locs hI hf => ?_)
  refine lv_iload hx hb dX3_bridges_117 (lv_at hl 6 rfl) ?_
  refine lv_ior hx hb dX3_bridges_119 ?_
  refine lv_iload_n hx hb dX3_bridges_120 rfl (lv_at hl 1 rfl) ?_
  refine m_calll (rest := []) C hI hf (mm_leastBy l N _ _ _) rfl cqM_leastBy ⟨rfl, rfl⟩ ⟨Nat.le_of_ble_eq_true rfl, Nat.le_of_ble_eq_true rfl⟩ rfl hl.1 rfl (Nat.le_of_ble_eq_true rfl) dX3_bridges_121 (fun v4 x3 H locs hI hf => ?_)
  refine lv_iload_n hx hb dX3_bridges_124 rfl (lv_at hl 2 rfl) ?_
  refine lv_i2l (v := l2.toInt64) hx hb dX3_bridges_125 rfl ?_
  refine W.lcmp hx hb dX3_bridges_126 ?_
  refine b_ifge (tgt := 133) hx hb hf dX3_bridges_127 (by decide) (fun hf => ?_) (fun hf => ?_)
  · refine lv_iload hx hb dX3_bridges_133 (lv_at hl 6 rfl) ?_
    refine lv_istore (lv' := [(5, .int l6), (0, .ref (w.2.2.1 28)), (1, .int l1), (2, .int l2), (3, .int l3), (4, .int l4), (6, .int l6)]) hx hb dX3_bridges_135 hl (by decide) rfl (fun ls hl => ?_)
    refine lv_iinc (v := l6 + 1) (lv' := [(6, .int (l6 + 1)), (5, .int l6), (0, .ref (w.2.2.1 28)), (1, .int l1), (2, .int l2), (3, .int l3), (4, .int l4)]) hx hb dX3_bridges_137 hl (k := 6) rfl rfl (by decide) rfl (fun ls hl => ?_)
    refine lv_goto (tgt := 44) hx hb dX3_bridges_140 (by decide) ?_
    exact hk44 x3 l1 l2 l3 l4 l6 (l6 + 1) _ _ _ hI (lv_sub hl [2, 3, 4, 5, 6, 1, 0] rfl) hf
  · refine lv_goto (tgt := 137) hx hb dX3_bridges_130 (by decide) ?_
    refine lv_iinc (v := l6 + 1) (lv' := [(6, .int (l6 + 1)), (0, .ref (w.2.2.1 28)), (1, .int l1), (2, .int l2), (3, .int l3), (4, .int l4), (5, .int l5)]) hx hb dX3_bridges_137 hl (k := 6) rfl rfl (by decide) rfl (fun ls hl => ?_)
    refine lv_goto (tgt := 44) hx hb dX3_bridges_140 (by decide) ?_
    exact hk44 x3 l1 l2 l3 l4 l5 (l6 + 1) _ _ _ hI (lv_sub hl [1, 2, 3, 4, 5, 6, 0] rfl) hf
def fM_bridges_b87 (N : Nat) (k44 : MS → Int32 → Int32 → Int32 → Int32 → Int32 → Int32 → Option (Int32 × MS)) (x : MS) (l1 : Int32) (l2 : Int32) (l3 : Int32) (l4 : Int32) (l5 : Int32) (l6 : Int32) (s0 : Int32) : Option (Int32 × MS) :=
  if 0 < s0 then
    k44 x l1 l2 l3 l4 l5 (l6 + 1)
  else
    if s0 = 0 then
      (fM_count N l6).bind fun v1 =>
      (fM_count N l5).bind fun v2 =>
      if v2 ≤ v1 then
        k44 x l1 l2 l3 l4 l5 (l6 + 1)
      else
        fM_bridges_b112 N k44 x l1 l2 l3 l4 l5 l6
    else
      fM_bridges_b112 N k44 x l1 l2 l3 l4 l5 l6
theorem w_fM_bridges_b87 {N : Nat} {r : Int32} {xr : MS} {k44 : MS → Int32 → Int32 → Int32 → Int32 → Int32 → Int32 → Option (Int32 × MS)} (C : mC w A p s m args meth c cX3_bridges 8 (some .int)) (hk44 : ∀ (x : MS) (l1 : Int32) (l2 : Int32) (l3 : Int32) (l4 : Int32) (l5 : Int32) (l6 : Int32) (H : Heap) (locs : List Loc) (ls : Array Slot), mI w A x s.heap H locs → lv_has ls 8 [(0, .ref (w.2.2.1 28)), (1, .int l1), (2, .int l2), (3, .int l3), (4, .int l4), (5, .int l5), (6, .int l6)] → k44 x l1 l2 l3 l4 l5 l6 = some (r, xr) → W p l e rmM_bridges s m args below meth c H locs 0 0 (MQ below (mQ w A (some (.int r)) xr) args s 0 0 A) (F0 m 44 ls [])) : ∀ (x : MS) (l1 : Int32) (l2 : Int32) (l3 : Int32) (l4 : Int32) (l5 : Int32) (l6 : Int32) (s0 : Int32) (H : Heap) (locs : List Loc) (ls : Array Slot), mI w A x s.heap H locs → lv_has ls 8 [(0, .ref (w.2.2.1 28)), (1, .int l1), (2, .int l2), (3, .int l3), (4, .int l4), (5, .int l5), (6, .int l6)] → fM_bridges_b87 N k44 x l1 l2 l3 l4 l5 l6 s0 = some (r, xr) → W p l e rmM_bridges s m args below meth c H locs 0 0 (MQ below (mQ w A (some (.int r)) xr) args s 0 0 A) (F0 m 87 ls [.int s0]) := by
  have hx := C.1.1
  have hb := C.1.2.1
  have hown := C.1.2.2.2.1
  have hts := C.1.2.2.2.2.1
  have hE := C.2.2
  intro x l1 l2 l3 l4 l5 l6 s0 H locs ls hI hl hf
  rw [fM_bridges_b87] at hf
  refine lv_istore (lv' := [(7, .int s0), (0, .ref (w.2.2.1 28)), (1, .int l1), (2, .int l2), (3, .int l3), (4, .int l4), (5, .int l5), (6, .int l6)]) hx hb dX3_bridges_87 hl (by decide) rfl (fun ls hl => ?_)
  refine lv_iload hx hb dX3_bridges_89 (lv_at hl 0 rfl) ?_
  refine b_ifgt (tgt := 137) hx hb hf dX3_bridges_91 (by decide) (fun hf => ?_) (fun hf => ?_)
  · refine lv_iinc (v := l6 + 1) (lv' := [(6, .int (l6 + 1)), (7, .int s0), (0, .ref (w.2.2.1 28)), (1, .int l1), (2, .int l2), (3, .int l3), (4, .int l4), (5, .int l5)]) hx hb dX3_bridges_137 hl (k := 7) rfl rfl (by decide) rfl (fun ls hl => ?_)
    refine lv_goto (tgt := 44) hx hb dX3_bridges_140 (by decide) ?_
    exact hk44 x l1 l2 l3 l4 l5 (l6 + 1) _ _ _ hI (lv_sub hl [2, 3, 4, 5, 6, 7, 0] rfl) hf
  · refine lv_iload hx hb dX3_bridges_94 (lv_at hl 0 rfl) ?_
    refine b_ifne (tgt := 112) hx hb hf dX3_bridges_96 (by decide) (fun hf => ?_) (fun hf => ?_)
    · exact w_fM_bridges_b112 C hk44 x l1 l2 l3 l4 l5 l6 _ _ _ hI (lv_sub hl [1, 2, 3, 4, 5, 6, 7] rfl) hf
    · refine lv_iload hx hb dX3_bridges_99 (lv_at hl 7 rfl) ?_
      refine g_calliS (rest := []) C.1 hf (smM_count l N _) cqM_M_count ⟨rfl, rfl⟩ ⟨Nat.le_of_ble_eq_true rfl, Nat.le_of_ble_eq_true rfl⟩ rfl hl.1 rfl (Nat.le_of_ble_eq_true rfl) ⟨Nat.zero_le _, Nat.zero_le _⟩ dX3_bridges_101 (fun v1 hf => ?_)
      refine lv_iload hx hb dX3_bridges_104 (lv_at hl 6 rfl) ?_
      refine g_calliS (rest := [.int v1]) C.1 hf (smM_count l N _) cqM_M_count ⟨rfl, rfl⟩ ⟨Nat.le_of_ble_eq_true rfl, Nat.le_of_ble_eq_true rfl⟩ rfl hl.1 rfl (Nat.le_of_ble_eq_true rfl) ⟨Nat.zero_le _, Nat.zero_le _⟩ dX3_bridges_106 (fun v2 hf => ?_)
      refine b_icge (tgt := 137) hx hb hf dX3_bridges_109 (by decide) (fun hf => ?_) (fun hf => ?_)
      · refine lv_iinc (v := l6 + 1) (lv' := [(6, .int (l6 + 1)), (7, .int s0), (0, .ref (w.2.2.1 28)), (1, .int l1), (2, .int l2), (3, .int l3), (4, .int l4), (5, .int l5)]) hx hb dX3_bridges_137 hl (k := 7) rfl rfl (by decide) rfl (fun ls hl => ?_)
        refine lv_goto (tgt := 44) hx hb dX3_bridges_140 (by decide) ?_
        exact hk44 x l1 l2 l3 l4 l5 (l6 + 1) _ _ _ hI (lv_sub hl [2, 3, 4, 5, 6, 7, 0] rfl) hf
      · exact w_fM_bridges_b112 C hk44 x l1 l2 l3 l4 l5 l6 _ _ _ hI (lv_sub hl [1, 2, 3, 4, 5, 6, 7] rfl) hf
def fM_bridges_b44 (N : Nat) : Nat → MS → Int32 → Int32 → Int32 → Int32 → Int32 → Int32 → Option (Int32 × MS)
  | 0, _, _, _, _, _, _, _ => none
  | n + 1, x, l1, l2, l3, l4, l5, l6 =>
  if l4 < l6 then
    if l5 = (-1) then
      some (l5, x)
    else
      if l3 = 1 then
        some (l5, x)
      else
        b2 (fM_costsOf N x l5) fun v2 x1 =>
        some (l1 * v2, x1)
  else
    if (l6 &&& (l4 ^^^ (-1))) = 0 then
      if l5 = (-1) then
        fM_bridges_b87 N (fM_bridges_b44 N n) x l1 l2 l3 l4 l5 l6 (-1)
      else
        b2 (fM_costsOf N x l6) fun v4 x3 =>
        b2 (fM_costsOf N x3 l5) fun v6 x5 =>
        fM_bridges_b87 N (fM_bridges_b44 N n) x5 l1 l2 l3 l4 l5 l6 (v4 - v6)
    else
      fM_bridges_b44 N n x l1 l2 l3 l4 l5 (l6 + 1)
theorem w_fM_bridges_b44 {N : Nat} {r : Int32} {xr : MS} (C : mC w A p s m args meth c cX3_bridges 8 (some .int)) : ∀ (n : Nat) (x : MS) (l1 : Int32) (l2 : Int32) (l3 : Int32) (l4 : Int32) (l5 : Int32) (l6 : Int32) (H : Heap) (locs : List Loc) (ls : Array Slot), mI w A x s.heap H locs → lv_has ls 8 [(0, .ref (w.2.2.1 28)), (1, .int l1), (2, .int l2), (3, .int l3), (4, .int l4), (5, .int l5), (6, .int l6)] → fM_bridges_b44 N n x l1 l2 l3 l4 l5 l6 = some (r, xr) → W p l e rmM_bridges s m args below meth c H locs 0 0 (MQ below (mQ w A (some (.int r)) xr) args s 0 0 A) (F0 m 44 ls []) := by
  have hx := C.1.1
  have hb := C.1.2.1
  have hown := C.1.2.2.2.1
  have hts := C.1.2.2.2.2.1
  have hE := C.2.2
  intro n
  induction n with
  | zero => intro x l1 l2 l3 l4 l5 l6 H locs ls hI hl hf; rw [fM_bridges_b44] at hf; cases hf
  | succ n ih =>
  intro x l1 l2 l3 l4 l5 l6 H locs ls hI hl hf
  rw [fM_bridges_b44] at hf
  refine lv_iload hx hb dX3_bridges_44 (lv_at hl 6 rfl) ?_
  refine lv_iload hx hb dX3_bridges_46 (lv_at hl 4 rfl) ?_
  refine b_icgt (tgt := 143) hx hb hf dX3_bridges_48 (by decide) (fun hf => ?_) (fun hf => ?_)
  · refine lv_iload hx hb dX3_bridges_143 (lv_at hl 5 rfl) ?_
    refine lv_iconst (v := (-1)) hx hb dX3_bridges_145 (by decide) ?_
    refine b_iceq (tgt := 154) hx hb hf dX3_bridges_146 (by decide) (fun hf => ?_) (fun hf => ?_)
    · refine lv_iload hx hb dX3_bridges_154 (lv_at hl 5 rfl) ?_
      refine lv_goto (tgt := 167) hx hb dX3_bridges_156 (by decide) ?_
      exact m_iret C hI hf dX3_bridges_167
    · refine lv_iload_n hx hb dX3_bridges_149 rfl (lv_at hl 3 rfl) ?_
      refine lv_iconst (v := 1) hx hb dX3_bridges_150 (by decide) ?_
      refine b_icne (tgt := 159) hx hb hf dX3_bridges_151 (by decide) (fun hf => ?_) (fun hf => ?_)
      · refine lv_iload_n hx hb dX3_bridges_159 rfl (lv_at hl 1 rfl) ?_
        refine lv_aload_n hx hb dX3_bridges_160 rfl (lv_at hl 0 rfl) ?_
        refine lv_iload hx hb dX3_bridges_161 (lv_at hl 5 rfl) ?_
        refine m_calli (rest := [.int l1]) C hI hf (mm_costsOf l N _ _) rfl cqM_costsOf ⟨rfl, rfl⟩ ⟨Nat.le_of_ble_eq_true rfl, Nat.le_of_ble_eq_true rfl⟩ rfl hl.1 rfl (Nat.le_of_ble_eq_true rfl) dX3_bridges_163 (fun v2 x1 H locs hI hf => ?_)
        refine lv_imul hx hb dX3_bridges_166 ?_
        exact m_iret C hI hf dX3_bridges_167
      · refine lv_iload hx hb dX3_bridges_154 (lv_at hl 5 rfl) ?_
        refine lv_goto (tgt := 167) hx hb dX3_bridges_156 (by decide) ?_
        exact m_iret C hI hf dX3_bridges_167
  · refine lv_iload hx hb dX3_bridges_51 (lv_at hl 6 rfl) ?_
    refine lv_iload hx hb dX3_bridges_53 (lv_at hl 4 rfl) ?_
    refine lv_iconst (v := (-1)) hx hb dX3_bridges_55 (by decide) ?_
    refine lv_ixor hx hb dX3_bridges_56 ?_
    refine lv_iand hx hb dX3_bridges_57 ?_
    refine b_ifeq (tgt := 64) hx hb hf dX3_bridges_58 (by decide) (fun hf => ?_) (fun hf => ?_)
    · refine lv_iload hx hb dX3_bridges_64 (lv_at hl 5 rfl) ?_
      refine lv_iconst (v := (-1)) hx hb dX3_bridges_66 (by decide) ?_
      refine b_icne (tgt := 74) hx hb hf dX3_bridges_67 (by decide) (fun hf => ?_) (fun hf => ?_)
      · refine lv_aload_n hx hb dX3_bridges_74 rfl (lv_at hl 0 rfl) ?_
        refine lv_iload hx hb dX3_bridges_75 (lv_at hl 6 rfl) ?_
        refine m_calli (rest := []) C hI hf (mm_costsOf l N _ _) rfl cqM_costsOf ⟨rfl, rfl⟩ ⟨Nat.le_of_ble_eq_true rfl, Nat.le_of_ble_eq_true rfl⟩ rfl hl.1 rfl (Nat.le_of_ble_eq_true rfl) dX3_bridges_77 (fun v4 x3 H locs hI hf => ?_)
        refine lv_aload_n hx hb dX3_bridges_80 rfl (lv_at hl 0 rfl) ?_
        refine lv_iload hx hb dX3_bridges_81 (lv_at hl 5 rfl) ?_
        refine m_calli (rest := [.int v4]) C hI hf (mm_costsOf l N _ _) rfl cqM_costsOf ⟨rfl, rfl⟩ ⟨Nat.le_of_ble_eq_true rfl, Nat.le_of_ble_eq_true rfl⟩ rfl hl.1 rfl (Nat.le_of_ble_eq_true rfl) dX3_bridges_83 (fun v6 x5 H locs hI hf => ?_)
        refine lv_isub hx hb dX3_bridges_86 ?_
        exact w_fM_bridges_b87 C ih x5 l1 l2 l3 l4 l5 l6 (v4 - v6) _ _ _ hI (lv_sub hl [0, 1, 2, 3, 4, 5, 6] rfl) hf
      · refine lv_iconst (v := (-1)) hx hb dX3_bridges_70 (by decide) ?_
        refine lv_goto (tgt := 87) hx hb dX3_bridges_71 (by decide) ?_
        exact w_fM_bridges_b87 C ih x l1 l2 l3 l4 l5 l6 (-1) _ _ _ hI (lv_sub hl [0, 1, 2, 3, 4, 5, 6] rfl) hf
    · refine lv_goto (tgt := 137) hx hb dX3_bridges_61 (by decide) ?_
      refine lv_iinc (v := l6 + 1) (lv' := [(6, .int (l6 + 1)), (0, .ref (w.2.2.1 28)), (1, .int l1), (2, .int l2), (3, .int l3), (4, .int l4), (5, .int l5)]) hx hb dX3_bridges_137 hl (k := 6) rfl rfl (by decide) rfl (fun ls hl => ?_)
      refine lv_goto (tgt := 44) hx hb dX3_bridges_140 (by decide) ?_
      exact ih x l1 l2 l3 l4 l5 (l6 + 1) _ _ _ hI (lv_sub hl [1, 2, 3, 4, 5, 6, 0] rfl) hf
def fM_bridges (N : Nat) (x : MS) (l1 : Int32) (l2 : Int32) (l3 : Int32) : Option (Int32 × MS) :=
  (fM_isIn N l1 1 60).bind fun v1 =>
  if v1 = 0 then
    some ((-1), x)
  else
    (fM_isIn N l2 0 1000000).bind fun v2 =>
    if v2 = 0 then
      some ((-1), x)
    else
      (fM_isIn N l3 0 1).bind fun v3 =>
      if v3 = 0 then
        some ((-1), x)
      else
        b2 (fM_bridgeable N x) fun v5 x4 =>
        fM_bridges_b44 N N x4 l1 l2 l3 v5 (-1) 0
theorem mm_bridges (l : Launch) (N : Nat) {w : mO} {A : Nat → Prop} : ∀ (x : MS) (l1 : Int32) (l2 : Int32) (l3 : Int32) (r : Int32) (xr : MS), fM_bridges N x l1 l2 l3 = some (r, xr) → mMet l yX3_bridges (ws_ yX3_bridges cX3_bridges 8 (some .int)) rmM_bridges [.ref (w.2.2.1 28), .int l1, .int l2, .int l3] w A x (some (.int r)) xr := by
  intro x l1 l2 l3 r xr hf
  refine m_start (cc := cX3_bridges) (by decide +kernel) rfl (Nat.le_of_ble_eq_true rfl) rfl ?_
  intro p e s m args below meth c ls H locs C hI hl
  have hx := C.1.1
  have hb := C.1.2.1
  have hown := C.1.2.2.2.1
  have hts := C.1.2.2.2.2.1
  have hE := C.2.2
  rw [fM_bridges] at hf
  refine lv_iload_n hx hb dX3_bridges_0 rfl (lv_at hl 1 rfl) ?_
  refine lv_iconst (v := 1) hx hb dX3_bridges_1 (by decide) ?_
  refine lv_bipush (v := 60) hx hb dX3_bridges_2 (by decide) ?_
  refine g_calliS (rest := []) C.1 hf (smM_isIn l N _ _ _) cqM_M_isIn ⟨rfl, rfl⟩ ⟨Nat.le_of_ble_eq_true rfl, Nat.le_of_ble_eq_true rfl⟩ rfl hl.1 rfl (Nat.le_of_ble_eq_true rfl) ⟨Nat.zero_le _, Nat.zero_le _⟩ dX3_bridges_4 (fun v1 hf => ?_)
  refine b_ifeq (tgt := 30) hx hb hf dX3_bridges_7 (by decide) (fun hf => ?_) (fun hf => ?_)
  · refine lv_iconst (v := (-1)) hx hb dX3_bridges_30 (by decide) ?_
    exact m_iret C hI hf dX3_bridges_31
  · refine lv_iload_n hx hb dX3_bridges_10 rfl (lv_at hl 2 rfl) ?_
    refine lv_iconst (v := 0) hx hb dX3_bridges_11 (by decide) ?_
    refine lv_ldcw hx hb hown (hts _ q1887) dX3_bridges_12 ?_
    refine g_calliS (rest := []) C.1 hf (smM_isIn l N _ _ _) cqM_M_isIn ⟨rfl, rfl⟩ ⟨Nat.le_of_ble_eq_true rfl, Nat.le_of_ble_eq_true rfl⟩ rfl hl.1 rfl (Nat.le_of_ble_eq_true rfl) ⟨Nat.zero_le _, Nat.zero_le _⟩ dX3_bridges_15 (fun v2 hf => ?_)
    refine b_ifeq (tgt := 30) hx hb hf dX3_bridges_18 (by decide) (fun hf => ?_) (fun hf => ?_)
    · refine lv_iconst (v := (-1)) hx hb dX3_bridges_30 (by decide) ?_
      exact m_iret C hI hf dX3_bridges_31
    · refine lv_iload_n hx hb dX3_bridges_21 rfl (lv_at hl 3 rfl) ?_
      refine lv_iconst (v := 0) hx hb dX3_bridges_22 (by decide) ?_
      refine lv_iconst (v := 1) hx hb dX3_bridges_23 (by decide) ?_
      refine g_calliS (rest := []) C.1 hf (smM_isIn l N _ _ _) cqM_M_isIn ⟨rfl, rfl⟩ ⟨Nat.le_of_ble_eq_true rfl, Nat.le_of_ble_eq_true rfl⟩ rfl hl.1 rfl (Nat.le_of_ble_eq_true rfl) ⟨Nat.zero_le _, Nat.zero_le _⟩ dX3_bridges_24 (fun v3 hf => ?_)
      refine b_ifne (tgt := 32) hx hb hf dX3_bridges_27 (by decide) (fun hf => ?_) (fun hf => ?_)
      · refine lv_aload_n hx hb dX3_bridges_32 rfl (lv_at hl 0 rfl) ?_
        refine m_calli (rest := []) C hI hf (mm_bridgeable l N _) rfl cqM_bridgeable ⟨rfl, rfl⟩ ⟨Nat.le_of_ble_eq_true rfl, Nat.le_of_ble_eq_true rfl⟩ rfl hl.1 rfl (Nat.le_of_ble_eq_true rfl) dX3_bridges_33 (fun v5 x4 H locs hI hf => ?_)
        refine lv_istore (lv' := [(4, .int v5), (0, .ref (w.2.2.1 28)), (1, .int l1), (2, .int l2), (3, .int l3)]) hx hb dX3_bridges_36 hl (by decide) rfl (fun ls hl => ?_)
        refine lv_iconst (v := (-1)) hx hb dX3_bridges_38 (by decide) ?_
        refine lv_istore (lv' := [(5, .int (-1)), (4, .int v5), (0, .ref (w.2.2.1 28)), (1, .int l1), (2, .int l2), (3, .int l3)]) hx hb dX3_bridges_39 hl (by decide) rfl (fun ls hl => ?_)
        refine lv_iconst (v := 0) hx hb dX3_bridges_41 (by decide) ?_
        refine lv_istore (lv' := [(6, .int 0), (5, .int (-1)), (4, .int v5), (0, .ref (w.2.2.1 28)), (1, .int l1), (2, .int l2), (3, .int l3)]) hx hb dX3_bridges_42 hl (by decide) rfl (fun ls hl => ?_)
        exact w_fM_bridges_b44 C N x4 l1 l2 l3 v5 (-1) 0 _ _ _ hI (lv_sub hl [3, 4, 5, 6, 2, 1, 0] rfl) hf
      · refine lv_iconst (v := (-1)) hx hb dX3_bridges_30 (by decide) ?_
        exact m_iret C hI hf dX3_bridges_31
/-! isGiving(I)Z -/
abbrev rmM_isGiving : Room := { frames := 3, cells := 0, slots := 0, locals := 64 }
def fM_isGiving (N : Nat) (x : MS) (l1 : Int32) : Option (Int32 × MS) :=
  b2 (fM_isThere N x l1) fun v2 x1 =>
  if v2 = 0 then
    some (0, x1)
  else
    (rd 1725 (gA x1 0) (28 + l1)).bind fun v3 =>
    if v3 ≤ 0 then
      some (0, x1)
    else
      some (1, x1)
theorem mm_isGiving (l : Launch) (N : Nat) {w : mO} {A : Nat → Prop} : ∀ (x : MS) (l1 : Int32) (r : Int32) (xr : MS), fM_isGiving N x l1 = some (r, xr) → mMet l yX3_isGiving (ws_ yX3_isGiving cX3_isGiving 2 (some .boolean)) rmM_isGiving [.ref (w.2.2.1 28), .int l1] w A x (some (.int r)) xr := by
  intro x l1 r xr hf
  refine m_start (cc := cX3_isGiving) (by decide +kernel) rfl (Nat.le_of_ble_eq_true rfl) rfl ?_
  intro p e s m args below meth c ls H locs C hI hl
  have hx := C.1.1
  have hb := C.1.2.1
  have hown := C.1.2.2.2.1
  have hts := C.1.2.2.2.2.1
  have hE := C.2.2
  rw [fM_isGiving] at hf
  refine lv_aload_n hx hb dX3_isGiving_0 rfl (lv_at hl 0 rfl) ?_
  refine lv_iload_n hx hb dX3_isGiving_1 rfl (lv_at hl 1 rfl) ?_
  refine m_calli (rest := []) C hI hf (mm_isThere l N _ _) rfl cqM_isThere ⟨rfl, rfl⟩ ⟨Nat.le_of_ble_eq_true rfl, Nat.le_of_ble_eq_true rfl⟩ rfl hl.1 rfl (Nat.le_of_ble_eq_true rfl) dX3_isGiving_2 (fun v2 x1 H locs hI hf => ?_)
  refine b_ifeq (tgt := 24) hx hb hf dX3_isGiving_5 (by decide) (fun hf => ?_) (fun hf => ?_)
  · refine lv_iconst (v := 0) hx hb dX3_isGiving_24 (by decide) ?_
    exact m_zretc C hI zb_0 hf dX3_isGiving_25
  · refine lv_aload_n hx hb dX3_isGiving_8 rfl (lv_at hl 0 rfl) ?_
    refine mg0 C hI dX3_isGiving_9 ?_
    refine lv_bipush (v := 28) hx hb dX3_isGiving_12 (by decide) ?_
    refine lv_iload_n hx hb dX3_isGiving_14 rfl (lv_at hl 1 rfl) ?_
    refine lv_iadd hx hb dX3_isGiving_15 ?_
    refine ma0 C hI hf dX3_isGiving_16 (fun v3 hf => ?_)
    refine b_ifle (tgt := 24) hx hb hf dX3_isGiving_17 (by decide) (fun hf => ?_) (fun hf => ?_)
    · refine lv_iconst (v := 0) hx hb dX3_isGiving_24 (by decide) ?_
      exact m_zretc C hI zb_0 hf dX3_isGiving_25
    · refine lv_iconst (v := 1) hx hb dX3_isGiving_20 (by decide) ?_
      refine lv_goto (tgt := 25) hx hb dX3_isGiving_21 (by decide) ?_
      exact m_zretc C hI zb_1 hf dX3_isGiving_25
/-! givenBy(I)I -/
abbrev rmM_givenBy : Room := { frames := 4, cells := 0, slots := 0, locals := 85 }
def fM_givenBy_b4 (N : Nat) : Nat → MS → Int32 → Int32 → Int32 → Option (Int32 × MS)
  | 0, _, _, _, _ => none
  | n + 1, x, l1, l2, l3 =>
  if (gA x 0 88) ≤ l3 then
    some (l2, x)
  else
    b2 (fM_isGiving N x l3) fun v2 x1 =>
    if v2 = 0 then
      fM_givenBy_b4 N n x1 l1 (l2 + 0) (l3 + 1)
    else
      (rd 1725 (gA x1 0) (28 + l3)).bind fun v3 =>
      (fM_lesser N l1 v3).bind fun v4 =>
      fM_givenBy_b4 N n x1 l1 (l2 + v4) (l3 + 1)
theorem w_fM_givenBy_b4 {N : Nat} {r : Int32} {xr : MS} (C : mC w A p s m args meth c cX3_givenBy 4 (some .int)) : ∀ (n : Nat) (x : MS) (l1 : Int32) (l2 : Int32) (l3 : Int32) (H : Heap) (locs : List Loc) (ls : Array Slot), mI w A x s.heap H locs → lv_has ls 4 [(0, .ref (w.2.2.1 28)), (1, .int l1), (2, .int l2), (3, .int l3)] → fM_givenBy_b4 N n x l1 l2 l3 = some (r, xr) → W p l e rmM_givenBy s m args below meth c H locs 0 0 (MQ below (mQ w A (some (.int r)) xr) args s 0 0 A) (F0 m 4 ls []) := by
  have hx := C.1.1
  have hb := C.1.2.1
  have hown := C.1.2.2.2.1
  have hts := C.1.2.2.2.2.1
  have hE := C.2.2
  intro n
  induction n with
  | zero => intro x l1 l2 l3 H locs ls hI hl hf; rw [fM_givenBy_b4] at hf; cases hf
  | succ n ih =>
  intro x l1 l2 l3 H locs ls hI hl hf
  rw [fM_givenBy_b4] at hf
  refine lv_iload_n hx hb dX3_givenBy_4 rfl (lv_at hl 3 rfl) ?_
  refine lv_aload_n hx hb dX3_givenBy_5 rfl (lv_at hl 0 rfl) ?_
  refine mg0 C hI dX3_givenBy_6 ?_
  refine lv_bipush (v := 88) hx hb dX3_givenBy_9 (by decide) ?_
  refine mac0 C hI rc1725_88 dX3_givenBy_11 ?_
  refine b_icge (tgt := 49) hx hb hf dX3_givenBy_12 (by decide) (fun hf => ?_) (fun hf => ?_)
  · refine lv_iload_n hx hb dX3_givenBy_49 rfl (lv_at hl 2 rfl) ?_
    exact m_iret C hI hf dX3_givenBy_50
  · refine lv_iload_n hx hb dX3_givenBy_15 rfl (lv_at hl 2 rfl) ?_
    refine lv_aload_n hx hb dX3_givenBy_16 rfl (lv_at hl 0 rfl) ?_
    refine lv_iload_n hx hb dX3_givenBy_17 rfl (lv_at hl 3 rfl) ?_
    refine m_calli (rest := [.int l2]) C hI hf (mm_isGiving l N _ _) rfl cqM_isGiving ⟨rfl, rfl⟩ ⟨Nat.le_of_ble_eq_true rfl, Nat.le_of_ble_eq_true rfl⟩ rfl hl.1 rfl (Nat.le_of_ble_eq_true rfl) dX3_givenBy_18 (fun v2 x1 H locs hI hf => ?_)
    refine b_ifeq (tgt := 40) hx hb hf dX3_givenBy_21 (by decide) (fun hf => ?_) (fun hf => ?_)
    · refine lv_iconst (v := 0) hx hb dX3_givenBy_40 (by decide) ?_
      refine lv_iadd hx hb dX3_givenBy_41 ?_
      refine lv_istore_n (lv' := [(2, .int (l2 + 0)), (0, .ref (w.2.2.1 28)), (1, .int l1), (3, .int l3)]) hx hb dX3_givenBy_42 rfl hl (by decide) rfl (fun ls hl => ?_)
      refine lv_iinc (v := l3 + 1) (lv' := [(3, .int (l3 + 1)), (2, .int (l2 + 0)), (0, .ref (w.2.2.1 28)), (1, .int l1)]) hx hb dX3_givenBy_43 hl (k := 3) rfl rfl (by decide) rfl (fun ls hl => ?_)
      refine lv_goto (tgt := 4) hx hb dX3_givenBy_46 (by decide) ?_
      exact ih x1 l1 (l2 + 0) (l3 + 1) _ _ _ hI (lv_sub hl [2, 3, 1, 0] rfl) hf
    · refine lv_iload_n hx hb dX3_givenBy_24 rfl (lv_at hl 1 rfl) ?_
      refine lv_aload_n hx hb dX3_givenBy_25 rfl (lv_at hl 0 rfl) ?_
      refine mg0 C hI dX3_givenBy_26 ?_
      refine lv_bipush (v := 28) hx hb dX3_givenBy_29 (by decide) ?_
      refine lv_iload_n hx hb dX3_givenBy_31 rfl (lv_at hl 3 rfl) ?_
      refine lv_iadd hx hb dX3_givenBy_32 ?_
      refine ma0 C hI hf dX3_givenBy_33 (fun v3 hf => ?_)
      refine g_calliS (rest := [.int l2]) C.1 hf (smM_lesser l N _ _) cqM_M_lesser ⟨rfl, rfl⟩ ⟨Nat.le_of_ble_eq_true rfl, Nat.le_of_ble_eq_true rfl⟩ rfl hl.1 rfl (Nat.le_of_ble_eq_true rfl) ⟨Nat.zero_le _, Nat.zero_le _⟩ dX3_givenBy_34 (fun v4 hf => ?_)
      refine lv_goto (tgt := 41) hx hb dX3_givenBy_37 (by decide) ?_
      refine lv_iadd hx hb dX3_givenBy_41 ?_
      refine lv_istore_n (lv' := [(2, .int (l2 + v4)), (0, .ref (w.2.2.1 28)), (1, .int l1), (3, .int l3)]) hx hb dX3_givenBy_42 rfl hl (by decide) rfl (fun ls hl => ?_)
      refine lv_iinc (v := l3 + 1) (lv' := [(3, .int (l3 + 1)), (2, .int (l2 + v4)), (0, .ref (w.2.2.1 28)), (1, .int l1)]) hx hb dX3_givenBy_43 hl (k := 3) rfl rfl (by decide) rfl (fun ls hl => ?_)
      refine lv_goto (tgt := 4) hx hb dX3_givenBy_46 (by decide) ?_
      exact ih x1 l1 (l2 + v4) (l3 + 1) _ _ _ hI (lv_sub hl [2, 3, 1, 0] rfl) hf
def fM_givenBy (N : Nat) (x : MS) (l1 : Int32) : Option (Int32 × MS) :=
  fM_givenBy_b4 N N x l1 0 0
theorem mm_givenBy (l : Launch) (N : Nat) {w : mO} {A : Nat → Prop} : ∀ (x : MS) (l1 : Int32) (r : Int32) (xr : MS), fM_givenBy N x l1 = some (r, xr) → mMet l yX3_givenBy (ws_ yX3_givenBy cX3_givenBy 4 (some .int)) rmM_givenBy [.ref (w.2.2.1 28), .int l1] w A x (some (.int r)) xr := by
  intro x l1 r xr hf
  refine m_start (cc := cX3_givenBy) (by decide +kernel) rfl (Nat.le_of_ble_eq_true rfl) rfl ?_
  intro p e s m args below meth c ls H locs C hI hl
  have hx := C.1.1
  have hb := C.1.2.1
  have hown := C.1.2.2.2.1
  have hts := C.1.2.2.2.2.1
  have hE := C.2.2
  rw [fM_givenBy] at hf
  refine lv_iconst (v := 0) hx hb dX3_givenBy_0 (by decide) ?_
  refine lv_istore_n (lv' := [(2, .int 0), (0, .ref (w.2.2.1 28)), (1, .int l1)]) hx hb dX3_givenBy_1 rfl hl (by decide) rfl (fun ls hl => ?_)
  refine lv_iconst (v := 0) hx hb dX3_givenBy_2 (by decide) ?_
  refine lv_istore_n (lv' := [(3, .int 0), (2, .int 0), (0, .ref (w.2.2.1 28)), (1, .int l1)]) hx hb dX3_givenBy_3 rfl hl (by decide) rfl (fun ls hl => ?_)
  exact w_fM_givenBy_b4 C N x l1 0 0 _ _ _ hI (lv_sub hl [2, 3, 1, 0] rfl) hf
/-! share(II)I -/
abbrev rmM_share : Room := { frames := 5, cells := 0, slots := 0, locals := 108 }
def fM_share_b70 (N : Nat) : Nat → MS → Int32 → Int32 → Int32 → Int32 → Option (Int32 × MS)
  | 0, _, _, _, _, _ => none
  | n + 1, x, l2, l3, l4, l5 =>
  if l2 ≤ l5 then
    b2 (fM_isGiving N x l2) fun v2 x1 =>
    if v2 = 0 then
      some (0, x1)
    else
      (rd 1725 (gA x1 0) (28 + l2)).bind fun v3 =>
      if l3 < v3 then
        if l4 ≤ 0 then
          some (l3, x1)
        else
          some (l3 + 1, x1)
      else
        (rd 1725 (gA x1 0) (28 + l2)).bind fun v4 =>
        some (v4, x1)
  else
    b2 (fM_isGiving N x l5) fun v6 x5 =>
    if v6 = 0 then
      fM_share_b70 N n x5 l2 l3 (l4 - 0) (l5 + 1)
    else
      (rd 1725 (gA x5 0) (28 + l5)).bind fun v7 =>
      if v7 ≤ l3 then
        fM_share_b70 N n x5 l2 l3 (l4 - 0) (l5 + 1)
      else
        fM_share_b70 N n x5 l2 l3 (l4 - 1) (l5 + 1)
theorem w_fM_share_b70 {N : Nat} {r : Int32} {xr : MS} (C : mC w A p s m args meth c cX3_share 6 (some .int)) : ∀ (n : Nat) (x : MS) (l2 : Int32) (l3 : Int32) (l4 : Int32) (l5 : Int32) (H : Heap) (locs : List Loc) (ls : Array Slot), mI w A x s.heap H locs → lv_has ls 6 [(0, .ref (w.2.2.1 28)), (2, .int l2), (3, .int l3), (4, .int l4), (5, .int l5)] → fM_share_b70 N n x l2 l3 l4 l5 = some (r, xr) → W p l e rmM_share s m args below meth c H locs 0 0 (MQ below (mQ w A (some (.int r)) xr) args s 0 0 A) (F0 m 70 ls []) := by
  have hx := C.1.1
  have hb := C.1.2.1
  have hown := C.1.2.2.2.1
  have hts := C.1.2.2.2.2.1
  have hE := C.2.2
  intro n
  induction n with
  | zero => intro x l2 l3 l4 l5 H locs ls hI hl hf; rw [fM_share_b70] at hf; cases hf
  | succ n ih =>
  intro x l2 l3 l4 l5 H locs ls hI hl hf
  rw [fM_share_b70] at hf
  refine lv_iload hx hb dX3_share_70 (lv_at hl 4 rfl) ?_
  refine lv_iload_n hx hb dX3_share_72 rfl (lv_at hl 1 rfl) ?_
  refine b_icge (tgt := 115) hx hb hf dX3_share_73 (by decide) (fun hf => ?_) (fun hf => ?_)
  · refine lv_aload_n hx hb dX3_share_115 rfl (lv_at hl 0 rfl) ?_
    refine lv_iload_n hx hb dX3_share_116 rfl (lv_at hl 1 rfl) ?_
    refine m_calli (rest := []) C hI hf (mm_isGiving l N _ _) rfl cqM_isGiving ⟨rfl, rfl⟩ ⟨Nat.le_of_ble_eq_true rfl, Nat.le_of_ble_eq_true rfl⟩ rfl hl.1 rfl (Nat.le_of_ble_eq_true rfl) dX3_share_117 (fun v2 x1 H locs hI hf => ?_)
    refine b_ifne (tgt := 127) hx hb hf dX3_share_120 (by decide) (fun hf => ?_) (fun hf => ?_)
    · refine lv_aload_n hx hb dX3_share_127 rfl (lv_at hl 0 rfl) ?_
      refine mg0 C hI dX3_share_128 ?_
      refine lv_bipush (v := 28) hx hb dX3_share_131 (by decide) ?_
      refine lv_iload_n hx hb dX3_share_133 rfl (lv_at hl 1 rfl) ?_
      refine lv_iadd hx hb dX3_share_134 ?_
      refine ma0 C hI hf dX3_share_135 (fun v3 hf => ?_)
      refine lv_iload_n hx hb dX3_share_136 rfl (lv_at hl 2 rfl) ?_
      refine b_icgt (tgt := 152) hx hb hf dX3_share_137 (by decide) (fun hf => ?_) (fun hf => ?_)
      · refine lv_iload hx hb dX3_share_152 (lv_at hl 3 rfl) ?_
        refine b_ifle (tgt := 163) hx hb hf dX3_share_154 (by decide) (fun hf => ?_) (fun hf => ?_)
        · refine lv_iload_n hx hb dX3_share_163 rfl (lv_at hl 2 rfl) ?_
          exact m_iret C hI hf dX3_share_164
        · refine lv_iload_n hx hb dX3_share_157 rfl (lv_at hl 2 rfl) ?_
          refine lv_iconst (v := 1) hx hb dX3_share_158 (by decide) ?_
          refine lv_iadd hx hb dX3_share_159 ?_
          refine lv_goto (tgt := 164) hx hb dX3_share_160 (by decide) ?_
          exact m_iret C hI hf dX3_share_164
      · refine lv_aload_n hx hb dX3_share_140 rfl (lv_at hl 0 rfl) ?_
        refine mg0 C hI dX3_share_141 ?_
        refine lv_bipush (v := 28) hx hb dX3_share_144 (by decide) ?_
        refine lv_iload_n hx hb dX3_share_146 rfl (lv_at hl 1 rfl) ?_
        refine lv_iadd hx hb dX3_share_147 ?_
        refine ma0 C hI hf dX3_share_148 (fun v4 hf => ?_)
        refine lv_goto (tgt := 164) hx hb dX3_share_149 (by decide) ?_
        exact m_iret C hI hf dX3_share_164
    · refine lv_iconst (v := 0) hx hb dX3_share_123 (by decide) ?_
      refine lv_goto (tgt := 164) hx hb dX3_share_124 (by decide) ?_
      exact m_iret C hI hf dX3_share_164
  · refine lv_iload hx hb dX3_share_76 (lv_at hl 3 rfl) ?_
    refine lv_aload_n hx hb dX3_share_78 rfl (lv_at hl 0 rfl) ?_
    refine lv_iload hx hb dX3_share_79 (lv_at hl 4 rfl) ?_
    refine m_calli (rest := [.int l4]) C hI hf (mm_isGiving l N _ _) rfl cqM_isGiving ⟨rfl, rfl⟩ ⟨Nat.le_of_ble_eq_true rfl, Nat.le_of_ble_eq_true rfl⟩ rfl hl.1 rfl (Nat.le_of_ble_eq_true rfl) dX3_share_81 (fun v6 x5 H locs hI hf => ?_)
    refine b_ifeq (tgt := 105) hx hb hf dX3_share_84 (by decide) (fun hf => ?_) (fun hf => ?_)
    · refine lv_iconst (v := 0) hx hb dX3_share_105 (by decide) ?_
      refine lv_isub hx hb dX3_share_106 ?_
      refine lv_istore (lv' := [(4, .int (l4 - 0)), (0, .ref (w.2.2.1 28)), (2, .int l2), (3, .int l3), (5, .int l5)]) hx hb dX3_share_107 hl (by decide) rfl (fun ls hl => ?_)
      refine lv_iinc (v := l5 + 1) (lv' := [(5, .int (l5 + 1)), (4, .int (l4 - 0)), (0, .ref (w.2.2.1 28)), (2, .int l2), (3, .int l3)]) hx hb dX3_share_109 hl (k := 4) rfl rfl (by decide) rfl (fun ls hl => ?_)
      refine lv_goto (tgt := 70) hx hb dX3_share_112 (by decide) ?_
      exact ih x5 l2 l3 (l4 - 0) (l5 + 1) _ _ _ hI (lv_sub hl [2, 3, 4, 1, 0] rfl) hf
    · refine lv_aload_n hx hb dX3_share_87 rfl (lv_at hl 0 rfl) ?_
      refine mg0 C hI dX3_share_88 ?_
      refine lv_bipush (v := 28) hx hb dX3_share_91 (by decide) ?_
      refine lv_iload hx hb dX3_share_93 (lv_at hl 4 rfl) ?_
      refine lv_iadd hx hb dX3_share_95 ?_
      refine ma0 C hI hf dX3_share_96 (fun v7 hf => ?_)
      refine lv_iload_n hx hb dX3_share_97 rfl (lv_at hl 2 rfl) ?_
      refine b_icle (tgt := 105) hx hb hf dX3_share_98 (by decide) (fun hf => ?_) (fun hf => ?_)
      · refine lv_iconst (v := 0) hx hb dX3_share_105 (by decide) ?_
        refine lv_isub hx hb dX3_share_106 ?_
        refine lv_istore (lv' := [(4, .int (l4 - 0)), (0, .ref (w.2.2.1 28)), (2, .int l2), (3, .int l3), (5, .int l5)]) hx hb dX3_share_107 hl (by decide) rfl (fun ls hl => ?_)
        refine lv_iinc (v := l5 + 1) (lv' := [(5, .int (l5 + 1)), (4, .int (l4 - 0)), (0, .ref (w.2.2.1 28)), (2, .int l2), (3, .int l3)]) hx hb dX3_share_109 hl (k := 4) rfl rfl (by decide) rfl (fun ls hl => ?_)
        refine lv_goto (tgt := 70) hx hb dX3_share_112 (by decide) ?_
        exact ih x5 l2 l3 (l4 - 0) (l5 + 1) _ _ _ hI (lv_sub hl [2, 3, 4, 1, 0] rfl) hf
      · refine lv_iconst (v := 1) hx hb dX3_share_101 (by decide) ?_
        refine lv_goto (tgt := 106) hx hb dX3_share_102 (by decide) ?_
        refine lv_isub hx hb dX3_share_106 ?_
        refine lv_istore (lv' := [(4, .int (l4 - 1)), (0, .ref (w.2.2.1 28)), (2, .int l2), (3, .int l3), (5, .int l5)]) hx hb dX3_share_107 hl (by decide) rfl (fun ls hl => ?_)
        refine lv_iinc (v := l5 + 1) (lv' := [(5, .int (l5 + 1)), (4, .int (l4 - 1)), (0, .ref (w.2.2.1 28)), (2, .int l2), (3, .int l3)]) hx hb dX3_share_109 hl (k := 4) rfl rfl (by decide) rfl (fun ls hl => ?_)
        refine lv_goto (tgt := 70) hx hb dX3_share_112 (by decide) ?_
        exact ih x5 l2 l3 (l4 - 1) (l5 + 1) _ _ _ hI (lv_sub hl [2, 3, 4, 1, 0] rfl) hf
def fM_share_b58 (N : Nat) (x : MS) (l1 : Int32) (l2 : Int32) (l3 : Int32) : Option (Int32 × MS) :=
  b2 (fM_givenBy N x l3) fun v2 x1 =>
  fM_share_b70 N N x1 l2 l3 (l1 - v2) 0
theorem w_fM_share_b58 {N : Nat} {r : Int32} {xr : MS} (C : mC w A p s m args meth c cX3_share 6 (some .int)) : ∀ (x : MS) (l1 : Int32) (l2 : Int32) (l3 : Int32) (H : Heap) (locs : List Loc) (ls : Array Slot), mI w A x s.heap H locs → lv_has ls 6 [(0, .ref (w.2.2.1 28)), (1, .int l1), (2, .int l2), (3, .int l3)] → fM_share_b58 N x l1 l2 l3 = some (r, xr) → W p l e rmM_share s m args below meth c H locs 0 0 (MQ below (mQ w A (some (.int r)) xr) args s 0 0 A) (F0 m 58 ls []) := by
  have hx := C.1.1
  have hb := C.1.2.1
  have hown := C.1.2.2.2.1
  have hts := C.1.2.2.2.2.1
  have hE := C.2.2
  intro x l1 l2 l3 H locs ls hI hl hf
  rw [fM_share_b58] at hf
  refine lv_iload_n hx hb dX3_share_58 rfl (lv_at hl 1 rfl) ?_
  refine lv_aload_n hx hb dX3_share_59 rfl (lv_at hl 0 rfl) ?_
  refine lv_iload_n hx hb dX3_share_60 rfl (lv_at hl 3 rfl) ?_
  refine m_calli (rest := [.int l1]) C hI hf (mm_givenBy l N _ _) rfl cqM_givenBy ⟨rfl, rfl⟩ ⟨Nat.le_of_ble_eq_true rfl, Nat.le_of_ble_eq_true rfl⟩ rfl hl.1 rfl (Nat.le_of_ble_eq_true rfl) dX3_share_61 (fun v2 x1 H locs hI hf => ?_)
  refine lv_isub hx hb dX3_share_64 ?_
  refine lv_istore (lv' := [(4, .int (l1 - v2)), (0, .ref (w.2.2.1 28)), (1, .int l1), (2, .int l2), (3, .int l3)]) hx hb dX3_share_65 hl (by decide) rfl (fun ls hl => ?_)
  refine lv_iconst (v := 0) hx hb dX3_share_67 (by decide) ?_
  refine lv_istore (lv' := [(5, .int 0), (4, .int (l1 - v2)), (0, .ref (w.2.2.1 28)), (1, .int l1), (2, .int l2), (3, .int l3)]) hx hb dX3_share_68 hl (by decide) rfl (fun ls hl => ?_)
  exact w_fM_share_b70 C N x1 l2 l3 (l1 - v2) 0 _ _ _ hI (lv_sub hl [2, 4, 5, 1, 0] rfl) hf
def fM_share_b34 (N : Nat) : Nat → MS → Int32 → Int32 → Int32 → Option (Int32 × MS)
  | 0, _, _, _, _ => none
  | n + 1, x, l1, l2, l3 =>
  if 999 ≤ l3 then
    fM_share_b58 N x l1 l2 l3
  else
    b2 (fM_givenBy N x (l3 + 1)) fun v2 x1 =>
    if l1 < v2 then
      fM_share_b58 N x1 l1 l2 l3
    else
      fM_share_b34 N n x1 l1 l2 (l3 + 1)
theorem w_fM_share_b34 {N : Nat} {r : Int32} {xr : MS} (C : mC w A p s m args meth c cX3_share 6 (some .int)) : ∀ (n : Nat) (x : MS) (l1 : Int32) (l2 : Int32) (l3 : Int32) (H : Heap) (locs : List Loc) (ls : Array Slot), mI w A x s.heap H locs → lv_has ls 6 [(0, .ref (w.2.2.1 28)), (1, .int l1), (2, .int l2), (3, .int l3)] → fM_share_b34 N n x l1 l2 l3 = some (r, xr) → W p l e rmM_share s m args below meth c H locs 0 0 (MQ below (mQ w A (some (.int r)) xr) args s 0 0 A) (F0 m 34 ls []) := by
  have hx := C.1.1
  have hb := C.1.2.1
  have hown := C.1.2.2.2.1
  have hts := C.1.2.2.2.2.1
  have hE := C.2.2
  intro n
  induction n with
  | zero => intro x l1 l2 l3 H locs ls hI hl hf; rw [fM_share_b34] at hf; cases hf
  | succ n ih =>
  intro x l1 l2 l3 H locs ls hI hl hf
  rw [fM_share_b34] at hf
  refine lv_iload_n hx hb dX3_share_34 rfl (lv_at hl 3 rfl) ?_
  refine lv_sipush (v := 999) hx hb dX3_share_35 (by decide) ?_
  refine b_icge (tgt := 58) hx hb hf dX3_share_38 (by decide) (fun hf => ?_) (fun hf => ?_)
  · exact w_fM_share_b58 C x l1 l2 l3 _ _ _ hI (lv_sub hl [0, 1, 2, 3] rfl) hf
  · refine lv_aload_n hx hb dX3_share_41 rfl (lv_at hl 0 rfl) ?_
    refine lv_iload_n hx hb dX3_share_42 rfl (lv_at hl 3 rfl) ?_
    refine lv_iconst (v := 1) hx hb dX3_share_43 (by decide) ?_
    refine lv_iadd hx hb dX3_share_44 ?_
    refine m_calli (rest := []) C hI hf (mm_givenBy l N _ _) rfl cqM_givenBy ⟨rfl, rfl⟩ ⟨Nat.le_of_ble_eq_true rfl, Nat.le_of_ble_eq_true rfl⟩ rfl hl.1 rfl (Nat.le_of_ble_eq_true rfl) dX3_share_45 (fun v2 x1 H locs hI hf => ?_)
    refine lv_iload_n hx hb dX3_share_48 rfl (lv_at hl 1 rfl) ?_
    refine b_icgt (tgt := 58) hx hb hf dX3_share_49 (by decide) (fun hf => ?_) (fun hf => ?_)
    · exact w_fM_share_b58 C x1 l1 l2 l3 _ _ _ hI (lv_sub hl [0, 1, 2, 3] rfl) hf
    · refine lv_iinc (v := l3 + 1) (lv' := [(3, .int (l3 + 1)), (0, .ref (w.2.2.1 28)), (1, .int l1), (2, .int l2)]) hx hb dX3_share_52 hl (k := 3) rfl rfl (by decide) rfl (fun ls hl => ?_)
      refine lv_goto (tgt := 34) hx hb dX3_share_55 (by decide) ?_
      exact ih x1 l1 l2 (l3 + 1) _ _ _ hI (lv_sub hl [1, 2, 3, 0] rfl) hf
def fM_share (N : Nat) (x : MS) (l1 : Int32) (l2 : Int32) : Option (Int32 × MS) :=
  (fM_isIn N l1 0 9999).bind fun v1 =>
  if v1 = 0 then
    some ((-1), x)
  else
    b2 (fM_isLink N x l2) fun v3 x2 =>
    if v3 = 0 then
      some ((-1), x2)
    else
      b2 (fM_givenBy N x2 999) fun v5 x4 =>
      if l1 ≤ v5 then
        fM_share_b34 N N x4 l1 l2 0
      else
        some ((-1), x4)
theorem mm_share (l : Launch) (N : Nat) {w : mO} {A : Nat → Prop} : ∀ (x : MS) (l1 : Int32) (l2 : Int32) (r : Int32) (xr : MS), fM_share N x l1 l2 = some (r, xr) → mMet l yX3_share (ws_ yX3_share cX3_share 6 (some .int)) rmM_share [.ref (w.2.2.1 28), .int l1, .int l2] w A x (some (.int r)) xr := by
  intro x l1 l2 r xr hf
  refine m_start (cc := cX3_share) (by decide +kernel) rfl (Nat.le_of_ble_eq_true rfl) rfl ?_
  intro p e s m args below meth c ls H locs C hI hl
  have hx := C.1.1
  have hb := C.1.2.1
  have hown := C.1.2.2.2.1
  have hts := C.1.2.2.2.2.1
  have hE := C.2.2
  rw [fM_share] at hf
  refine lv_iload_n hx hb dX3_share_0 rfl (lv_at hl 1 rfl) ?_
  refine lv_iconst (v := 0) hx hb dX3_share_1 (by decide) ?_
  refine lv_sipush (v := 9999) hx hb dX3_share_2 (by decide) ?_
  refine g_calliS (rest := []) C.1 hf (smM_isIn l N _ _ _) cqM_M_isIn ⟨rfl, rfl⟩ ⟨Nat.le_of_ble_eq_true rfl, Nat.le_of_ble_eq_true rfl⟩ rfl hl.1 rfl (Nat.le_of_ble_eq_true rfl) ⟨Nat.zero_le _, Nat.zero_le _⟩ dX3_share_5 (fun v1 hf => ?_)
  refine b_ifeq (tgt := 30) hx hb hf dX3_share_8 (by decide) (fun hf => ?_) (fun hf => ?_)
  · refine lv_iconst (v := (-1)) hx hb dX3_share_30 (by decide) ?_
    exact m_iret C hI hf dX3_share_31
  · refine lv_aload_n hx hb dX3_share_11 rfl (lv_at hl 0 rfl) ?_
    refine lv_iload_n hx hb dX3_share_12 rfl (lv_at hl 2 rfl) ?_
    refine m_calli (rest := []) C hI hf (mm_isLink l N _ _) rfl cqM_isLink ⟨rfl, rfl⟩ ⟨Nat.le_of_ble_eq_true rfl, Nat.le_of_ble_eq_true rfl⟩ rfl hl.1 rfl (Nat.le_of_ble_eq_true rfl) dX3_share_13 (fun v3 x2 H locs hI hf => ?_)
    refine b_ifeq (tgt := 30) hx hb hf dX3_share_16 (by decide) (fun hf => ?_) (fun hf => ?_)
    · refine lv_iconst (v := (-1)) hx hb dX3_share_30 (by decide) ?_
      exact m_iret C hI hf dX3_share_31
    · refine lv_aload_n hx hb dX3_share_19 rfl (lv_at hl 0 rfl) ?_
      refine lv_sipush (v := 999) hx hb dX3_share_20 (by decide) ?_
      refine m_calli (rest := []) C hI hf (mm_givenBy l N _ _) rfl cqM_givenBy ⟨rfl, rfl⟩ ⟨Nat.le_of_ble_eq_true rfl, Nat.le_of_ble_eq_true rfl⟩ rfl hl.1 rfl (Nat.le_of_ble_eq_true rfl) dX3_share_23 (fun v5 x4 H locs hI hf => ?_)
      refine lv_iload_n hx hb dX3_share_26 rfl (lv_at hl 1 rfl) ?_
      refine b_icge (tgt := 32) hx hb hf dX3_share_27 (by decide) (fun hf => ?_) (fun hf => ?_)
      · refine lv_iconst (v := 0) hx hb dX3_share_32 (by decide) ?_
        refine lv_istore_n (lv' := [(3, .int 0), (0, .ref (w.2.2.1 28)), (1, .int l1), (2, .int l2)]) hx hb dX3_share_33 rfl hl (by decide) rfl (fun ls hl => ?_)
        exact w_fM_share_b34 C N x4 l1 l2 0 _ _ _ hI (lv_sub hl [1, 2, 3, 0] rfl) hf
      · refine lv_iconst (v := (-1)) hx hb dX3_share_30 (by decide) ?_
        exact m_iret C hI hf dX3_share_31
/-! along(III)I -/
abbrev rmM_along : Room := { frames := 5, cells := 0, slots := 0, locals := 116 }
def fM_along_b75 (N : Nat) (k39 : MS → Int32 → Int32 → Int32 → Int32 → Option (Int32 × MS)) (x : MS) (l3 : Int32) (l4 : Int32) (l5 : Int32) (l6 : Int32) (s0 : Int32) : Option (Int32 × MS) :=
  lt (if s0 ≤ 0 then 0 else 1 : Int32) fun v1 =>
  k39 x l3 (l4 - s0) (l5 + v1) (l6 + 1)
theorem w_fM_along_b75 {N : Nat} {r : Int32} {xr : MS} {k39 : MS → Int32 → Int32 → Int32 → Int32 → Option (Int32 × MS)} (C : mC w A p s m args meth c cX3_along 8 (some .int)) (hk39 : ∀ (x : MS) (l3 : Int32) (l4 : Int32) (l5 : Int32) (l6 : Int32) (H : Heap) (locs : List Loc) (ls : Array Slot), mI w A x s.heap H locs → lv_has ls 8 [(0, .ref (w.2.2.1 28)), (3, .int l3), (4, .int l4), (5, .int l5), (6, .int l6)] → k39 x l3 l4 l5 l6 = some (r, xr) → W p l e rmM_along s m args below meth c H locs 0 0 (MQ below (mQ w A (some (.int r)) xr) args s 0 0 A) (F0 m 39 ls [])) : ∀ (x : MS) (l3 : Int32) (l4 : Int32) (l5 : Int32) (l6 : Int32) (s0 : Int32) (H : Heap) (locs : List Loc) (ls : Array Slot), mI w A x s.heap H locs → lv_has ls 8 [(0, .ref (w.2.2.1 28)), (3, .int l3), (4, .int l4), (5, .int l5), (6, .int l6)] → fM_along_b75 N k39 x l3 l4 l5 l6 s0 = some (r, xr) → W p l e rmM_along s m args below meth c H locs 0 0 (MQ below (mQ w A (some (.int r)) xr) args s 0 0 A) (F0 m 75 ls [.int s0]) := by
  have hx := C.1.1
  have hb := C.1.2.1
  have hown := C.1.2.2.2.1
  have hts := C.1.2.2.2.2.1
  have hE := C.2.2
  intro x l3 l4 l5 l6 s0 H locs ls hI hl hf
  rw [fM_along_b75] at hf
  refine lv_istore (lv' := [(7, .int s0), (0, .ref (w.2.2.1 28)), (3, .int l3), (4, .int l4), (5, .int l5), (6, .int l6)]) hx hb dX3_along_75 hl (by decide) rfl (fun ls hl => ?_)
  refine lv_iload hx hb dX3_along_77 (lv_at hl 3 rfl) ?_
  refine lv_iload hx hb dX3_along_79 (lv_at hl 0 rfl) ?_
  refine lv_isub hx hb dX3_along_81 ?_
  refine lv_istore (lv' := [(4, .int (l4 - s0)), (7, .int s0), (0, .ref (w.2.2.1 28)), (3, .int l3), (5, .int l5), (6, .int l6)]) hx hb dX3_along_82 hl (by decide) rfl (fun ls hl => ?_)
  refine lv_iload hx hb dX3_along_84 (lv_at hl 4 rfl) ?_
  refine lv_iload hx hb dX3_along_86 (lv_at hl 1 rfl) ?_
  suffices hJ : ∀ v1 : Int32, (v1 = (if s0 ≤ 0 then 0 else 1 : Int32)) → W p l e rmM_along s m args below meth c H locs 0 0 (MQ below (mQ w A (some (.int r)) xr) args s 0 0 A) (F0 m 96 ls [.int v1, .int l5]) by
    refine lv_if_le (tgt := 95) hx hb dX3_along_88 (by decide) (fun hc => ?_) (fun hc => ?_)
    · refine lv_iconst (v := 0) hx hb dX3_along_95 (by decide) ?_
      exact hJ _ (if_pos hc).symm
    · refine lv_iconst (v := 1) hx hb dX3_along_91 (by decide) ?_
      refine lv_goto (tgt := 96) hx hb dX3_along_92 (by decide) ?_
      exact hJ _ (if_neg hc).symm
  intro v1 hv
  have hf := lt_of hv hf
  refine lv_iadd hx hb dX3_along_96 ?_
  refine lv_istore (lv' := [(5, .int (l5 + v1)), (4, .int (l4 - s0)), (7, .int s0), (0, .ref (w.2.2.1 28)), (3, .int l3), (6, .int l6)]) hx hb dX3_along_97 hl (by decide) rfl (fun ls hl => ?_)
  refine lv_iinc (v := l6 + 1) (lv' := [(6, .int (l6 + 1)), (5, .int (l5 + v1)), (4, .int (l4 - s0)), (7, .int s0), (0, .ref (w.2.2.1 28)), (3, .int l3)]) hx hb dX3_along_99 hl (k := 5) rfl rfl (by decide) rfl (fun ls hl => ?_)
  refine lv_goto (tgt := 39) hx hb dX3_along_102 (by decide) ?_
  exact hk39 x l3 (l4 - s0) (l5 + v1) (l6 + 1) _ _ _ hI (lv_sub hl [4, 5, 2, 1, 0] rfl) hf
def fM_along_b39 (N : Nat) : Nat → MS → Int32 → Int32 → Int32 → Int32 → Option (Int32 × MS)
  | 0, _, _, _, _, _ => none
  | n + 1, x, l3, l4, l5, l6 =>
  if (gA x 0 88) ≤ l6 then
    lt (if l3 = 0 then l4 else l5 : Int32) fun v1 =>
    some (v1, x)
  else
    b2 (fM_isThere N x l6) fun v3 x2 =>
    if v3 = 0 then
      fM_along_b75 N (fM_along_b39 N n) x2 l3 l4 l5 l6 0
    else
      b2 (fM_giveOf N x2 l6) fun v5 x4 =>
      (fM_lesser N l4 v5).bind fun v6 =>
      fM_along_b75 N (fM_along_b39 N n) x4 l3 l4 l5 l6 v6
theorem w_fM_along_b39 {N : Nat} {r : Int32} {xr : MS} (C : mC w A p s m args meth c cX3_along 8 (some .int)) : ∀ (n : Nat) (x : MS) (l3 : Int32) (l4 : Int32) (l5 : Int32) (l6 : Int32) (H : Heap) (locs : List Loc) (ls : Array Slot), mI w A x s.heap H locs → lv_has ls 8 [(0, .ref (w.2.2.1 28)), (3, .int l3), (4, .int l4), (5, .int l5), (6, .int l6)] → fM_along_b39 N n x l3 l4 l5 l6 = some (r, xr) → W p l e rmM_along s m args below meth c H locs 0 0 (MQ below (mQ w A (some (.int r)) xr) args s 0 0 A) (F0 m 39 ls []) := by
  have hx := C.1.1
  have hb := C.1.2.1
  have hown := C.1.2.2.2.1
  have hts := C.1.2.2.2.2.1
  have hE := C.2.2
  intro n
  induction n with
  | zero => intro x l3 l4 l5 l6 H locs ls hI hl hf; rw [fM_along_b39] at hf; cases hf
  | succ n ih =>
  intro x l3 l4 l5 l6 H locs ls hI hl hf
  rw [fM_along_b39] at hf
  refine lv_iload hx hb dX3_along_39 (lv_at hl 4 rfl) ?_
  refine lv_aload_n hx hb dX3_along_41 rfl (lv_at hl 0 rfl) ?_
  refine mg0 C hI dX3_along_42 ?_
  refine lv_bipush (v := 88) hx hb dX3_along_45 (by decide) ?_
  refine mac0 C hI rc1725_88 dX3_along_47 ?_
  refine b_icge (tgt := 105) hx hb hf dX3_along_48 (by decide) (fun hf => ?_) (fun hf => ?_)
  · refine lv_iload_n hx hb dX3_along_105 rfl (lv_at hl 1 rfl) ?_
    suffices hJ : ∀ v1 : Int32, (v1 = (if l3 = 0 then l4 else l5 : Int32)) → W p l e rmM_along s m args below meth c H locs 0 0 (MQ below (mQ w A (some (.int r)) xr) args s 0 0 A) (F0 m 116 ls [.int v1]) by
      refine lv_if_ne (tgt := 114) hx hb dX3_along_106 (by decide) (fun hc => ?_) (fun hc => ?_)
      · refine lv_iload hx hb dX3_along_114 (lv_at hl 3 rfl) ?_
        exact hJ _ (if_neg hc).symm
      · refine lv_iload hx hb dX3_along_109 (lv_at hl 2 rfl) ?_
        refine lv_goto (tgt := 116) hx hb dX3_along_111 (by decide) ?_
        exact hJ _ (if_pos hc).symm
    intro v1 hv
    have hf := lt_of hv hf
    exact m_iret C hI hf dX3_along_116
  · refine lv_aload_n hx hb dX3_along_51 rfl (lv_at hl 0 rfl) ?_
    refine lv_iload hx hb dX3_along_52 (lv_at hl 4 rfl) ?_
    refine m_calli (rest := []) C hI hf (mm_isThere l N _ _) rfl cqM_isThere ⟨rfl, rfl⟩ ⟨Nat.le_of_ble_eq_true rfl, Nat.le_of_ble_eq_true rfl⟩ rfl hl.1 rfl (Nat.le_of_ble_eq_true rfl) dX3_along_54 (fun v3 x2 H locs hI hf => ?_)
    refine b_ifeq (tgt := 74) hx hb hf dX3_along_57 (by decide) (fun hf => ?_) (fun hf => ?_)
    · refine lv_iconst (v := 0) hx hb dX3_along_74 (by decide) ?_
      exact w_fM_along_b75 C ih x2 l3 l4 l5 l6 0 _ _ _ hI (lv_sub hl [0, 1, 2, 3, 4] rfl) hf
    · refine lv_iload hx hb dX3_along_60 (lv_at hl 2 rfl) ?_
      refine lv_aload_n hx hb dX3_along_62 rfl (lv_at hl 0 rfl) ?_
      refine lv_iload hx hb dX3_along_63 (lv_at hl 4 rfl) ?_
      refine m_calli (rest := [.int l4]) C hI hf (mm_giveOf l N _ _) rfl cqM_giveOf ⟨rfl, rfl⟩ ⟨Nat.le_of_ble_eq_true rfl, Nat.le_of_ble_eq_true rfl⟩ rfl hl.1 rfl (Nat.le_of_ble_eq_true rfl) dX3_along_65 (fun v5 x4 H locs hI hf => ?_)
      refine g_calliS (rest := []) C.1 hf (smM_lesser l N _ _) cqM_M_lesser ⟨rfl, rfl⟩ ⟨Nat.le_of_ble_eq_true rfl, Nat.le_of_ble_eq_true rfl⟩ rfl hl.1 rfl (Nat.le_of_ble_eq_true rfl) ⟨Nat.zero_le _, Nat.zero_le _⟩ dX3_along_68 (fun v6 hf => ?_)
      refine lv_goto (tgt := 75) hx hb dX3_along_71 (by decide) ?_
      exact w_fM_along_b75 C ih x4 l3 l4 l5 l6 v6 _ _ _ hI (lv_sub hl [0, 1, 2, 3, 4] rfl) hf
def fM_along (N : Nat) (x : MS) (l1 : Int32) (l2 : Int32) (l3 : Int32) : Option (Int32 × MS) :=
  b2 (fM_isLink N x l1) fun v2 x1 =>
  if v2 = 0 then
    some ((-1), x1)
  else
    (fM_isIn N l2 0 999).bind fun v3 =>
    if v3 = 0 then
      some ((-1), x1)
    else
      (fM_isIn N l3 0 1).bind fun v4 =>
      if v4 = 0 then
        some ((-1), x1)
      else
        fM_along_b39 N N x1 l3 l2 0 l1
theorem mm_along (l : Launch) (N : Nat) {w : mO} {A : Nat → Prop} : ∀ (x : MS) (l1 : Int32) (l2 : Int32) (l3 : Int32) (r : Int32) (xr : MS), fM_along N x l1 l2 l3 = some (r, xr) → mMet l yX3_along (ws_ yX3_along cX3_along 8 (some .int)) rmM_along [.ref (w.2.2.1 28), .int l1, .int l2, .int l3] w A x (some (.int r)) xr := by
  intro x l1 l2 l3 r xr hf
  refine m_start (cc := cX3_along) (by decide +kernel) rfl (Nat.le_of_ble_eq_true rfl) rfl ?_
  intro p e s m args below meth c ls H locs C hI hl
  have hx := C.1.1
  have hb := C.1.2.1
  have hown := C.1.2.2.2.1
  have hts := C.1.2.2.2.2.1
  have hE := C.2.2
  rw [fM_along] at hf
  refine lv_aload_n hx hb dX3_along_0 rfl (lv_at hl 0 rfl) ?_
  refine lv_iload_n hx hb dX3_along_1 rfl (lv_at hl 1 rfl) ?_
  refine m_calli (rest := []) C hI hf (mm_isLink l N _ _) rfl cqM_isLink ⟨rfl, rfl⟩ ⟨Nat.le_of_ble_eq_true rfl, Nat.le_of_ble_eq_true rfl⟩ rfl hl.1 rfl (Nat.le_of_ble_eq_true rfl) dX3_along_2 (fun v2 x1 H locs hI hf => ?_)
  refine b_ifeq (tgt := 28) hx hb hf dX3_along_5 (by decide) (fun hf => ?_) (fun hf => ?_)
  · refine lv_iconst (v := (-1)) hx hb dX3_along_28 (by decide) ?_
    exact m_iret C hI hf dX3_along_29
  · refine lv_iload_n hx hb dX3_along_8 rfl (lv_at hl 2 rfl) ?_
    refine lv_iconst (v := 0) hx hb dX3_along_9 (by decide) ?_
    refine lv_sipush (v := 999) hx hb dX3_along_10 (by decide) ?_
    refine g_calliS (rest := []) C.1 hf (smM_isIn l N _ _ _) cqM_M_isIn ⟨rfl, rfl⟩ ⟨Nat.le_of_ble_eq_true rfl, Nat.le_of_ble_eq_true rfl⟩ rfl hl.1 rfl (Nat.le_of_ble_eq_true rfl) ⟨Nat.zero_le _, Nat.zero_le _⟩ dX3_along_13 (fun v3 hf => ?_)
    refine b_ifeq (tgt := 28) hx hb hf dX3_along_16 (by decide) (fun hf => ?_) (fun hf => ?_)
    · refine lv_iconst (v := (-1)) hx hb dX3_along_28 (by decide) ?_
      exact m_iret C hI hf dX3_along_29
    · refine lv_iload_n hx hb dX3_along_19 rfl (lv_at hl 3 rfl) ?_
      refine lv_iconst (v := 0) hx hb dX3_along_20 (by decide) ?_
      refine lv_iconst (v := 1) hx hb dX3_along_21 (by decide) ?_
      refine g_calliS (rest := []) C.1 hf (smM_isIn l N _ _ _) cqM_M_isIn ⟨rfl, rfl⟩ ⟨Nat.le_of_ble_eq_true rfl, Nat.le_of_ble_eq_true rfl⟩ rfl hl.1 rfl (Nat.le_of_ble_eq_true rfl) ⟨Nat.zero_le _, Nat.zero_le _⟩ dX3_along_22 (fun v4 hf => ?_)
      refine b_ifne (tgt := 30) hx hb hf dX3_along_25 (by decide) (fun hf => ?_) (fun hf => ?_)
      · refine lv_iload_n hx hb dX3_along_30 rfl (lv_at hl 2 rfl) ?_
        refine lv_istore (lv' := [(4, .int l2), (0, .ref (w.2.2.1 28)), (1, .int l1), (2, .int l2), (3, .int l3)]) hx hb dX3_along_31 hl (by decide) rfl (fun ls hl => ?_)
        refine lv_iconst (v := 0) hx hb dX3_along_33 (by decide) ?_
        refine lv_istore (lv' := [(5, .int 0), (4, .int l2), (0, .ref (w.2.2.1 28)), (1, .int l1), (2, .int l2), (3, .int l3)]) hx hb dX3_along_34 hl (by decide) rfl (fun ls hl => ?_)
        refine lv_iload_n hx hb dX3_along_36 rfl (lv_at hl 3 rfl) ?_
        refine lv_istore (lv' := [(6, .int l1), (5, .int 0), (4, .int l2), (0, .ref (w.2.2.1 28)), (1, .int l1), (2, .int l2), (3, .int l3)]) hx hb dX3_along_37 hl (by decide) rfl (fun ls hl => ?_)
        exact w_fM_along_b39 C N x1 l3 l2 0 l1 _ _ _ hI (lv_sub hl [3, 6, 2, 1, 0] rfl) hf
      · refine lv_iconst (v := (-1)) hx hb dX3_along_28 (by decide) ?_
        exact m_iret C hI hf dX3_along_29
/-! choice(IIII)I -/
abbrev rmM_choice : Room := { frames := 5, cells := 0, slots := 0, locals := 116 }
def fM_choice_b127 (N : Nat) (x : MS) (l4 : Int32) (l7 : Int32) (l8 : Int32) : Option (Int32 × MS) :=
  lt (if l4 = 0 then l8 else l7 : Int32) fun v1 =>
  some (v1, x)
theorem w_fM_choice_b127 {N : Nat} {r : Int32} {xr : MS} (C : mC w A p s m args meth c cX3_choice 9 (some .int)) : ∀ (x : MS) (l4 : Int32) (l7 : Int32) (l8 : Int32) (H : Heap) (locs : List Loc) (ls : Array Slot), mI w A x s.heap H locs → lv_has ls 9 [(4, .int l4), (7, .int l7), (8, .int l8)] → fM_choice_b127 N x l4 l7 l8 = some (r, xr) → W p l e rmM_choice s m args below meth c H locs 0 0 (MQ below (mQ w A (some (.int r)) xr) args s 0 0 A) (F0 m 127 ls []) := by
  have hx := C.1.1
  have hb := C.1.2.1
  have hown := C.1.2.2.2.1
  have hts := C.1.2.2.2.2.1
  have hE := C.2.2
  intro x l4 l7 l8 H locs ls hI hl hf
  rw [fM_choice_b127] at hf
  refine lv_iload hx hb dX3_choice_127 (lv_at hl 0 rfl) ?_
  suffices hJ : ∀ v1 : Int32, (v1 = (if l4 = 0 then l8 else l7 : Int32)) → W p l e rmM_choice s m args below meth c H locs 0 0 (MQ below (mQ w A (some (.int r)) xr) args s 0 0 A) (F0 m 139 ls [.int v1]) by
    refine lv_if_ne (tgt := 137) hx hb dX3_choice_129 (by decide) (fun hc => ?_) (fun hc => ?_)
    · refine lv_iload hx hb dX3_choice_137 (lv_at hl 1 rfl) ?_
      exact hJ _ (if_neg hc).symm
    · refine lv_iload hx hb dX3_choice_132 (lv_at hl 2 rfl) ?_
      refine lv_goto (tgt := 139) hx hb dX3_choice_134 (by decide) ?_
      exact hJ _ (if_pos hc).symm
  intro v1 hv
  have hf := lt_of hv hf
  exact m_iret C hI hf dX3_choice_139
def fM_choice_b116 (N : Nat) (x : MS) (l4 : Int32) (l7 : Int32) (l8 : Int32) : Option (Int32 × MS) :=
  if 0 ≤ l7 then
    fM_choice_b127 N x l4 l7 l8
  else
    fM_choice_b127 N x l4 0 2
theorem w_fM_choice_b116 {N : Nat} {r : Int32} {xr : MS} (C : mC w A p s m args meth c cX3_choice 9 (some .int)) : ∀ (x : MS) (l4 : Int32) (l7 : Int32) (l8 : Int32) (H : Heap) (locs : List Loc) (ls : Array Slot), mI w A x s.heap H locs → lv_has ls 9 [(4, .int l4), (7, .int l7), (8, .int l8)] → fM_choice_b116 N x l4 l7 l8 = some (r, xr) → W p l e rmM_choice s m args below meth c H locs 0 0 (MQ below (mQ w A (some (.int r)) xr) args s 0 0 A) (F0 m 116 ls []) := by
  have hx := C.1.1
  have hb := C.1.2.1
  have hown := C.1.2.2.2.1
  have hts := C.1.2.2.2.2.1
  have hE := C.2.2
  intro x l4 l7 l8 H locs ls hI hl hf
  rw [fM_choice_b116] at hf
  refine lv_iload hx hb dX3_choice_116 (lv_at hl 1 rfl) ?_
  refine b_ifge (tgt := 127) hx hb hf dX3_choice_118 (by decide) (fun hf => ?_) (fun hf => ?_)
  · exact w_fM_choice_b127 C x l4 l7 l8 _ _ _ hI (lv_sub hl [0, 1, 2] rfl) hf
  · refine lv_iconst (v := 0) hx hb dX3_choice_121 (by decide) ?_
    refine lv_istore (lv' := [(7, .int 0), (4, .int l4), (8, .int l8)]) hx hb dX3_choice_122 hl (by decide) rfl (fun ls hl => ?_)
    refine lv_iconst (v := 2) hx hb dX3_choice_124 (by decide) ?_
    refine lv_istore (lv' := [(8, .int 2), (7, .int 0), (4, .int l4)]) hx hb dX3_choice_125 hl (by decide) rfl (fun ls hl => ?_)
    exact w_fM_choice_b127 C x l4 0 2 _ _ _ hI (lv_sub hl [2, 1, 0] rfl) hf
def fM_choice (N : Nat) (x : MS) (l1 : Int32) (l2 : Int32) (l3 : Int32) (l4 : Int32) : Option (Int32 × MS) :=
  b2 (fM_isLink N x l1) fun v2 x1 =>
  if v2 = 0 then
    some ((-100000), x1)
  else
    (fM_isIn N l2 0 999).bind fun v3 =>
    if v3 = 0 then
      some ((-100000), x1)
    else
      (fM_isIn N l3 0 1000).bind fun v4 =>
      if v4 = 0 then
        some ((-100000), x1)
      else
        (fM_isIn N l4 0 1).bind fun v5 =>
        if v5 = 0 then
          some ((-100000), x1)
        else
          (rd 1725 (gA x1 0) (28 + l1)).bind fun v6 =>
          (rd 1725 (gA x1 0) (28 + l1)).bind fun v7 =>
          (fM_greater N 0 (v6 - l2)).bind fun v8 =>
          (fM_downwards N ((l3 * v7) + ((1000 - l3) * v8)) 1000).bind fun v9 =>
          b2 (fM_costOf N x1 l1) fun v11 x10 =>
          if (v9 - v11) ≤ (v6 - l2) then
            fM_choice_b116 N x10 l4 (v6 - l2) 0
          else
            fM_choice_b116 N x10 l4 (v9 - v11) 1
theorem mm_choice (l : Launch) (N : Nat) {w : mO} {A : Nat → Prop} : ∀ (x : MS) (l1 : Int32) (l2 : Int32) (l3 : Int32) (l4 : Int32) (r : Int32) (xr : MS), fM_choice N x l1 l2 l3 l4 = some (r, xr) → mMet l yX3_choice (ws_ yX3_choice cX3_choice 9 (some .int)) rmM_choice [.ref (w.2.2.1 28), .int l1, .int l2, .int l3, .int l4] w A x (some (.int r)) xr := by
  intro x l1 l2 l3 l4 r xr hf
  refine m_start (cc := cX3_choice) (by decide +kernel) rfl (Nat.le_of_ble_eq_true rfl) rfl ?_
  intro p e s m args below meth c ls H locs C hI hl
  have hx := C.1.1
  have hb := C.1.2.1
  have hown := C.1.2.2.2.1
  have hts := C.1.2.2.2.2.1
  have hE := C.2.2
  rw [fM_choice] at hf
  refine lv_aload_n hx hb dX3_choice_0 rfl (lv_at hl 0 rfl) ?_
  refine lv_iload_n hx hb dX3_choice_1 rfl (lv_at hl 1 rfl) ?_
  refine m_calli (rest := []) C hI hf (mm_isLink l N _ _) rfl cqM_isLink ⟨rfl, rfl⟩ ⟨Nat.le_of_ble_eq_true rfl, Nat.le_of_ble_eq_true rfl⟩ rfl hl.1 rfl (Nat.le_of_ble_eq_true rfl) dX3_choice_2 (fun v2 x1 H locs hI hf => ?_)
  refine b_ifeq (tgt := 40) hx hb hf dX3_choice_5 (by decide) (fun hf => ?_) (fun hf => ?_)
  · refine lv_ldcw hx hb hown (hts _ q1829) dX3_choice_40 ?_
    exact m_iret C hI hf dX3_choice_43
  · refine lv_iload_n hx hb dX3_choice_8 rfl (lv_at hl 2 rfl) ?_
    refine lv_iconst (v := 0) hx hb dX3_choice_9 (by decide) ?_
    refine lv_sipush (v := 999) hx hb dX3_choice_10 (by decide) ?_
    refine g_calliS (rest := []) C.1 hf (smM_isIn l N _ _ _) cqM_M_isIn ⟨rfl, rfl⟩ ⟨Nat.le_of_ble_eq_true rfl, Nat.le_of_ble_eq_true rfl⟩ rfl hl.1 rfl (Nat.le_of_ble_eq_true rfl) ⟨Nat.zero_le _, Nat.zero_le _⟩ dX3_choice_13 (fun v3 hf => ?_)
    refine b_ifeq (tgt := 40) hx hb hf dX3_choice_16 (by decide) (fun hf => ?_) (fun hf => ?_)
    · refine lv_ldcw hx hb hown (hts _ q1829) dX3_choice_40 ?_
      exact m_iret C hI hf dX3_choice_43
    · refine lv_iload_n hx hb dX3_choice_19 rfl (lv_at hl 3 rfl) ?_
      refine lv_iconst (v := 0) hx hb dX3_choice_20 (by decide) ?_
      refine lv_sipush (v := 1000) hx hb dX3_choice_21 (by decide) ?_
      refine g_calliS (rest := []) C.1 hf (smM_isIn l N _ _ _) cqM_M_isIn ⟨rfl, rfl⟩ ⟨Nat.le_of_ble_eq_true rfl, Nat.le_of_ble_eq_true rfl⟩ rfl hl.1 rfl (Nat.le_of_ble_eq_true rfl) ⟨Nat.zero_le _, Nat.zero_le _⟩ dX3_choice_24 (fun v4 hf => ?_)
      refine b_ifeq (tgt := 40) hx hb hf dX3_choice_27 (by decide) (fun hf => ?_) (fun hf => ?_)
      · refine lv_ldcw hx hb hown (hts _ q1829) dX3_choice_40 ?_
        exact m_iret C hI hf dX3_choice_43
      · refine lv_iload hx hb dX3_choice_30 (lv_at hl 4 rfl) ?_
        refine lv_iconst (v := 0) hx hb dX3_choice_32 (by decide) ?_
        refine lv_iconst (v := 1) hx hb dX3_choice_33 (by decide) ?_
        refine g_calliS (rest := []) C.1 hf (smM_isIn l N _ _ _) cqM_M_isIn ⟨rfl, rfl⟩ ⟨Nat.le_of_ble_eq_true rfl, Nat.le_of_ble_eq_true rfl⟩ rfl hl.1 rfl (Nat.le_of_ble_eq_true rfl) ⟨Nat.zero_le _, Nat.zero_le _⟩ dX3_choice_34 (fun v5 hf => ?_)
        refine b_ifne (tgt := 44) hx hb hf dX3_choice_37 (by decide) (fun hf => ?_) (fun hf => ?_)
        · refine lv_aload_n hx hb dX3_choice_44 rfl (lv_at hl 0 rfl) ?_
          refine mg0 C hI dX3_choice_45 ?_
          refine lv_bipush (v := 28) hx hb dX3_choice_48 (by decide) ?_
          refine lv_iload_n hx hb dX3_choice_50 rfl (lv_at hl 1 rfl) ?_
          refine lv_iadd hx hb dX3_choice_51 ?_
          refine ma0 C hI hf dX3_choice_52 (fun v6 hf => ?_)
          refine lv_iload_n hx hb dX3_choice_53 rfl (lv_at hl 2 rfl) ?_
          refine lv_isub hx hb dX3_choice_54 ?_
          refine lv_istore (lv' := [(5, .int (v6 - l2)), (0, .ref (w.2.2.1 28)), (1, .int l1), (2, .int l2), (3, .int l3), (4, .int l4)]) hx hb dX3_choice_55 hl (by decide) rfl (fun ls hl => ?_)
          refine lv_iload_n hx hb dX3_choice_57 rfl (lv_at hl 4 rfl) ?_
          refine lv_aload_n hx hb dX3_choice_58 rfl (lv_at hl 1 rfl) ?_
          refine mg0 C hI dX3_choice_59 ?_
          refine lv_bipush (v := 28) hx hb dX3_choice_62 (by decide) ?_
          refine lv_iload_n hx hb dX3_choice_64 rfl (lv_at hl 2 rfl) ?_
          refine lv_iadd hx hb dX3_choice_65 ?_
          refine ma0 C hI hf dX3_choice_66 (fun v7 hf => ?_)
          refine lv_imul hx hb dX3_choice_67 ?_
          refine lv_sipush (v := 1000) hx hb dX3_choice_68 (by decide) ?_
          refine lv_iload_n hx hb dX3_choice_71 rfl (lv_at hl 4 rfl) ?_
          refine lv_isub hx hb dX3_choice_72 ?_
          refine lv_iconst (v := 0) hx hb dX3_choice_73 (by decide) ?_
          refine lv_iload hx hb dX3_choice_74 (lv_at hl 0 rfl) ?_
          refine g_calliS (rest := [.int (1000 - l3), .int (l3 * v7)]) C.1 hf (smM_greater l N _ _) cqM_M_greater ⟨rfl, rfl⟩ ⟨Nat.le_of_ble_eq_true rfl, Nat.le_of_ble_eq_true rfl⟩ rfl hl.1 rfl (Nat.le_of_ble_eq_true rfl) ⟨Nat.zero_le _, Nat.zero_le _⟩ dX3_choice_76 (fun v8 hf => ?_)
          refine lv_imul hx hb dX3_choice_79 ?_
          refine lv_iadd hx hb dX3_choice_80 ?_
          refine lv_sipush (v := 1000) hx hb dX3_choice_81 (by decide) ?_
          refine g_calliS (rest := []) C.1 hf (smM_downwards l N _ _) cqM_M_downwards ⟨rfl, rfl⟩ ⟨Nat.le_of_ble_eq_true rfl, Nat.le_of_ble_eq_true rfl⟩ rfl hl.1 rfl (Nat.le_of_ble_eq_true rfl) ⟨Nat.zero_le _, Nat.zero_le _⟩ dX3_choice_84 (fun v9 hf => ?_)
          refine lv_aload_n hx hb dX3_choice_87 rfl (lv_at hl 1 rfl) ?_
          refine lv_iload_n hx hb dX3_choice_88 rfl (lv_at hl 2 rfl) ?_
          refine m_calli (rest := [.int v9]) C hI hf (mm_costOf l N _ _) rfl cqM_costOf ⟨rfl, rfl⟩ ⟨Nat.le_of_ble_eq_true rfl, Nat.le_of_ble_eq_true rfl⟩ rfl hl.1 rfl (Nat.le_of_ble_eq_true rfl) dX3_choice_89 (fun v11 x10 H locs hI hf => ?_)
          refine lv_isub hx hb dX3_choice_92 ?_
          refine lv_istore (lv' := [(6, .int (v9 - v11)), (5, .int (v6 - l2)), (0, .ref (w.2.2.1 28)), (1, .int l1), (2, .int l2), (3, .int l3), (4, .int l4)]) hx hb dX3_choice_93 hl (by decide) rfl (fun ls hl => ?_)
          refine lv_iload hx hb dX3_choice_95 (lv_at hl 1 rfl) ?_
          refine lv_istore (lv' := [(7, .int (v6 - l2)), (6, .int (v9 - v11)), (5, .int (v6 - l2)), (0, .ref (w.2.2.1 28)), (1, .int l1), (2, .int l2), (3, .int l3), (4, .int l4)]) hx hb dX3_choice_97 hl (by decide) rfl (fun ls hl => ?_)
          refine lv_iconst (v := 0) hx hb dX3_choice_99 (by decide) ?_
          refine lv_istore (lv' := [(8, .int 0), (7, .int (v6 - l2)), (6, .int (v9 - v11)), (5, .int (v6 - l2)), (0, .ref (w.2.2.1 28)), (1, .int l1), (2, .int l2), (3, .int l3), (4, .int l4)]) hx hb dX3_choice_100 hl (by decide) rfl (fun ls hl => ?_)
          refine lv_iload hx hb dX3_choice_102 (lv_at hl 2 rfl) ?_
          refine lv_iload hx hb dX3_choice_104 (lv_at hl 1 rfl) ?_
          refine b_icle (tgt := 116) hx hb hf dX3_choice_106 (by decide) (fun hf => ?_) (fun hf => ?_)
          · exact w_fM_choice_b116 C x10 l4 (v6 - l2) 0 _ _ _ hI (lv_sub hl [8, 1, 0] rfl) hf
          · refine lv_iload hx hb dX3_choice_109 (lv_at hl 2 rfl) ?_
            refine lv_istore (lv' := [(7, .int (v9 - v11)), (8, .int 0), (6, .int (v9 - v11)), (5, .int (v6 - l2)), (0, .ref (w.2.2.1 28)), (1, .int l1), (2, .int l2), (3, .int l3), (4, .int l4)]) hx hb dX3_choice_111 hl (by decide) rfl (fun ls hl => ?_)
            refine lv_iconst (v := 1) hx hb dX3_choice_113 (by decide) ?_
            refine lv_istore (lv' := [(8, .int 1), (7, .int (v9 - v11)), (6, .int (v9 - v11)), (5, .int (v6 - l2)), (0, .ref (w.2.2.1 28)), (1, .int l1), (2, .int l2), (3, .int l3), (4, .int l4)]) hx hb dX3_choice_114 hl (by decide) rfl (fun ls hl => ?_)
            exact w_fM_choice_b116 C x10 l4 (v9 - v11) 1 _ _ _ hI (lv_sub hl [8, 1, 0] rfl) hf
        · refine lv_ldcw hx hb hown (hts _ q1829) dX3_choice_40 ?_
          exact m_iret C hI hf dX3_choice_43
/-! bluff(III)I -/
abbrev rmM_bluff : Room := { frames := 1, cells := 0, slots := 0, locals := 22 }
def fM_bluff (N : Nat) (x : MS) (l1 : Int32) (l2 : Int32) (l3 : Int32) : Option (Int32 × MS) :=
  (fM_isIn N l1 0 1000).bind fun v1 =>
  if v1 = 0 then
    some ((-1), x)
  else
    (fM_isIn N l2 0 1000).bind fun v2 =>
    if v2 = 0 then
      some ((-1), x)
    else
      (fM_isIn N l3 0 1000).bind fun v3 =>
      if v3 = 0 then
        some ((-1), x)
      else
        if (lg_cmp ((l1.toInt64 * l2.toInt64) + (((1000 - l1).toInt64) * l3.toInt64)) 0) = 0 then
          some ((-1), x)
        else
          (dvL (1000000 * (l1.toInt64 * l2.toInt64)) ((l1.toInt64 * l2.toInt64) + (((1000 - l1).toInt64) * l3.toInt64))).bind fun v4 =>
          some (v4.toInt32, x)
theorem mm_bluff (l : Launch) (N : Nat) {w : mO} {A : Nat → Prop} : ∀ (x : MS) (l1 : Int32) (l2 : Int32) (l3 : Int32) (r : Int32) (xr : MS), fM_bluff N x l1 l2 l3 = some (r, xr) → mMet l yX3_bluff (ws_ yX3_bluff cX3_bluff 8 (some .int)) rmM_bluff [.ref (w.2.2.1 28), .int l1, .int l2, .int l3] w A x (some (.int r)) xr := by
  intro x l1 l2 l3 r xr hf
  refine m_start (cc := cX3_bluff) (by decide +kernel) rfl (Nat.le_of_ble_eq_true rfl) rfl ?_
  intro p e s m args below meth c ls H locs C hI hl
  have hx := C.1.1
  have hb := C.1.2.1
  have hown := C.1.2.2.2.1
  have hts := C.1.2.2.2.2.1
  have hE := C.2.2
  rw [fM_bluff] at hf
  refine lv_iload_n hx hb dX3_bluff_0 rfl (lv_at hl 1 rfl) ?_
  refine lv_iconst (v := 0) hx hb dX3_bluff_1 (by decide) ?_
  refine lv_sipush (v := 1000) hx hb dX3_bluff_2 (by decide) ?_
  refine g_calliS (rest := []) C.1 hf (smM_isIn l N _ _ _) cqM_M_isIn ⟨rfl, rfl⟩ ⟨Nat.le_of_ble_eq_true rfl, Nat.le_of_ble_eq_true rfl⟩ rfl hl.1 rfl (Nat.le_of_ble_eq_true rfl) ⟨Nat.zero_le _, Nat.zero_le _⟩ dX3_bluff_5 (fun v1 hf => ?_)
  refine b_ifeq (tgt := 33) hx hb hf dX3_bluff_8 (by decide) (fun hf => ?_) (fun hf => ?_)
  · refine lv_iconst (v := (-1)) hx hb dX3_bluff_33 (by decide) ?_
    exact m_iret C hI hf dX3_bluff_34
  · refine lv_iload_n hx hb dX3_bluff_11 rfl (lv_at hl 2 rfl) ?_
    refine lv_iconst (v := 0) hx hb dX3_bluff_12 (by decide) ?_
    refine lv_sipush (v := 1000) hx hb dX3_bluff_13 (by decide) ?_
    refine g_calliS (rest := []) C.1 hf (smM_isIn l N _ _ _) cqM_M_isIn ⟨rfl, rfl⟩ ⟨Nat.le_of_ble_eq_true rfl, Nat.le_of_ble_eq_true rfl⟩ rfl hl.1 rfl (Nat.le_of_ble_eq_true rfl) ⟨Nat.zero_le _, Nat.zero_le _⟩ dX3_bluff_16 (fun v2 hf => ?_)
    refine b_ifeq (tgt := 33) hx hb hf dX3_bluff_19 (by decide) (fun hf => ?_) (fun hf => ?_)
    · refine lv_iconst (v := (-1)) hx hb dX3_bluff_33 (by decide) ?_
      exact m_iret C hI hf dX3_bluff_34
    · refine lv_iload_n hx hb dX3_bluff_22 rfl (lv_at hl 3 rfl) ?_
      refine lv_iconst (v := 0) hx hb dX3_bluff_23 (by decide) ?_
      refine lv_sipush (v := 1000) hx hb dX3_bluff_24 (by decide) ?_
      refine g_calliS (rest := []) C.1 hf (smM_isIn l N _ _ _) cqM_M_isIn ⟨rfl, rfl⟩ ⟨Nat.le_of_ble_eq_true rfl, Nat.le_of_ble_eq_true rfl⟩ rfl hl.1 rfl (Nat.le_of_ble_eq_true rfl) ⟨Nat.zero_le _, Nat.zero_le _⟩ dX3_bluff_27 (fun v3 hf => ?_)
      refine b_ifne (tgt := 35) hx hb hf dX3_bluff_30 (by decide) (fun hf => ?_) (fun hf => ?_)
      · refine lv_iload_n hx hb dX3_bluff_35 rfl (lv_at hl 1 rfl) ?_
        refine lv_i2l (v := l1.toInt64) hx hb dX3_bluff_36 rfl ?_
        refine lv_iload_n hx hb dX3_bluff_37 rfl (lv_at hl 2 rfl) ?_
        refine lv_i2l (v := l2.toInt64) hx hb dX3_bluff_38 rfl ?_
        refine lv_lmul hx hb dX3_bluff_39 ?_
        refine lv_lstore (lv' := [(4, .long (l1.toInt64 * l2.toInt64)), (0, .ref (w.2.2.1 28)), (1, .int l1), (2, .int l2), (3, .int l3)]) hx hb dX3_bluff_40 hl (by decide) rfl (fun ls hl => ?_)
        refine lv_lload hx hb dX3_bluff_42 (lv_at hl 0 rfl) ?_
        refine lv_sipush (v := 1000) hx hb dX3_bluff_44 (by decide) ?_
        refine lv_iload_n hx hb dX3_bluff_47 rfl (lv_at hl 2 rfl) ?_
        refine lv_isub hx hb dX3_bluff_48 ?_
        refine lv_i2l (v := (1000 - l1).toInt64) hx hb dX3_bluff_49 rfl ?_
        refine lv_iload_n hx hb dX3_bluff_50 rfl (lv_at hl 4 rfl) ?_
        refine lv_i2l (v := l3.toInt64) hx hb dX3_bluff_51 rfl ?_
        refine lv_lmul hx hb dX3_bluff_52 ?_
        refine lv_ladd hx hb dX3_bluff_53 ?_
        refine lv_lstore (lv' := [(6, .long ((l1.toInt64 * l2.toInt64) + (((1000 - l1).toInt64) * l3.toInt64))), (4, .long (l1.toInt64 * l2.toInt64)), (0, .ref (w.2.2.1 28)), (1, .int l1), (2, .int l2), (3, .int l3)]) hx hb dX3_bluff_54 hl (by decide) rfl (fun ls hl => ?_)
        refine lv_lload hx hb dX3_bluff_56 (lv_at hl 0 rfl) ?_
        refine lv_lconst (v := 0) hx hb dX3_bluff_58 rfl ?_
        refine W.lcmp hx hb dX3_bluff_59 ?_
        refine b_ifne (tgt := 67) hx hb hf dX3_bluff_60 (by decide) (fun hf => ?_) (fun hf => ?_)
        · refine lv_ldc2 hx hb hown (hts _ q1865) dX3_bluff_67 ?_
          refine lv_lload hx hb dX3_bluff_70 (lv_at hl 1 rfl) ?_
          refine lv_lmul hx hb dX3_bluff_72 ?_
          refine lv_lload hx hb dX3_bluff_73 (lv_at hl 0 rfl) ?_
          refine b_ldiv hx hb hf dX3_bluff_75 (fun v4 hf => ?_)
          refine lv_l2i (v := v4.toInt32) hx hb dX3_bluff_76 rfl ?_
          exact m_iret C hI hf dX3_bluff_77
        · refine lv_iconst (v := (-1)) hx hb dX3_bluff_63 (by decide) ?_
          refine lv_goto (tgt := 77) hx hb dX3_bluff_64 (by decide) ?_
          exact m_iret C hI hf dX3_bluff_77
      · refine lv_iconst (v := (-1)) hx hb dX3_bluff_33 (by decide) ?_
        exact m_iret C hI hf dX3_bluff_34
/-! gap(I)I -/
abbrev rmM_gap : Room := { frames := 2, cells := 0, slots := 0, locals := 43 }
def fM_gap (N : Nat) (x : MS) (l1 : Int32) : Option (Int32 × MS) :=
  b2 (fM_isLink N x l1) fun v2 x1 =>
  if v2 = 0 then
    some ((-1), x1)
  else
    b2 (fM_canPay N x1 l1) fun v4 x3 =>
    if v4 = 0 then
      (rd 1725 (gA x3 0) ((4 + l1) + 1)).bind fun v5 =>
      (rd 1725 (gA x3 0) (16 + l1)).bind fun v6 =>
      if l1 = 0 then
        some ((v5 - v6) - 0, x3)
      else
        (rd 1725 (gA x3 0) (4 + l1)).bind fun v7 =>
        some ((v5 - v6) - v7, x3)
    else
      some (0, x3)
theorem mm_gap (l : Launch) (N : Nat) {w : mO} {A : Nat → Prop} : ∀ (x : MS) (l1 : Int32) (r : Int32) (xr : MS), fM_gap N x l1 = some (r, xr) → mMet l yX3_gap (ws_ yX3_gap cX3_gap 2 (some .int)) rmM_gap [.ref (w.2.2.1 28), .int l1] w A x (some (.int r)) xr := by
  intro x l1 r xr hf
  refine m_start (cc := cX3_gap) (by decide +kernel) rfl (Nat.le_of_ble_eq_true rfl) rfl ?_
  intro p e s m args below meth c ls H locs C hI hl
  have hx := C.1.1
  have hb := C.1.2.1
  have hown := C.1.2.2.2.1
  have hts := C.1.2.2.2.2.1
  have hE := C.2.2
  rw [fM_gap] at hf
  refine lv_aload_n hx hb dX3_gap_0 rfl (lv_at hl 0 rfl) ?_
  refine lv_iload_n hx hb dX3_gap_1 rfl (lv_at hl 1 rfl) ?_
  refine m_calli (rest := []) C hI hf (mm_isLink l N _ _) rfl cqM_isLink ⟨rfl, rfl⟩ ⟨Nat.le_of_ble_eq_true rfl, Nat.le_of_ble_eq_true rfl⟩ rfl hl.1 rfl (Nat.le_of_ble_eq_true rfl) dX3_gap_2 (fun v2 x1 H locs hI hf => ?_)
  refine b_ifne (tgt := 12) hx hb hf dX3_gap_5 (by decide) (fun hf => ?_) (fun hf => ?_)
  · refine lv_aload_n hx hb dX3_gap_12 rfl (lv_at hl 0 rfl) ?_
    refine lv_iload_n hx hb dX3_gap_13 rfl (lv_at hl 1 rfl) ?_
    refine m_calli (rest := []) C hI hf (mm_canPay l N _ _) rfl cqM_canPay ⟨rfl, rfl⟩ ⟨Nat.le_of_ble_eq_true rfl, Nat.le_of_ble_eq_true rfl⟩ rfl hl.1 rfl (Nat.le_of_ble_eq_true rfl) dX3_gap_14 (fun v4 x3 H locs hI hf => ?_)
    refine b_ifeq (tgt := 24) hx hb hf dX3_gap_17 (by decide) (fun hf => ?_) (fun hf => ?_)
    · refine lv_aload_n hx hb dX3_gap_24 rfl (lv_at hl 0 rfl) ?_
      refine mg0 C hI dX3_gap_25 ?_
      refine lv_iconst (v := 4) hx hb dX3_gap_28 (by decide) ?_
      refine lv_iload_n hx hb dX3_gap_29 rfl (lv_at hl 1 rfl) ?_
      refine lv_iadd hx hb dX3_gap_30 ?_
      refine lv_iconst (v := 1) hx hb dX3_gap_31 (by decide) ?_
      refine lv_iadd hx hb dX3_gap_32 ?_
      refine ma0 C hI hf dX3_gap_33 (fun v5 hf => ?_)
      refine lv_aload_n hx hb dX3_gap_34 rfl (lv_at hl 0 rfl) ?_
      refine mg0 C hI dX3_gap_35 ?_
      refine lv_bipush (v := 16) hx hb dX3_gap_38 (by decide) ?_
      refine lv_iload_n hx hb dX3_gap_40 rfl (lv_at hl 1 rfl) ?_
      refine lv_iadd hx hb dX3_gap_41 ?_
      refine ma0 C hI hf dX3_gap_42 (fun v6 hf => ?_)
      refine lv_isub hx hb dX3_gap_43 ?_
      refine lv_iload_n hx hb dX3_gap_44 rfl (lv_at hl 1 rfl) ?_
      refine b_ifne (tgt := 52) hx hb hf dX3_gap_45 (by decide) (fun hf => ?_) (fun hf => ?_)
      · refine lv_aload_n hx hb dX3_gap_52 rfl (lv_at hl 0 rfl) ?_
        refine mg0 C hI dX3_gap_53 ?_
        refine lv_iconst (v := 4) hx hb dX3_gap_56 (by decide) ?_
        refine lv_iload_n hx hb dX3_gap_57 rfl (lv_at hl 1 rfl) ?_
        refine lv_iadd hx hb dX3_gap_58 ?_
        refine ma0 C hI hf dX3_gap_59 (fun v7 hf => ?_)
        refine lv_isub hx hb dX3_gap_60 ?_
        exact m_iret C hI hf dX3_gap_61
      · refine lv_iconst (v := 0) hx hb dX3_gap_48 (by decide) ?_
        refine lv_goto (tgt := 60) hx hb dX3_gap_49 (by decide) ?_
        refine lv_isub hx hb dX3_gap_60 ?_
        exact m_iret C hI hf dX3_gap_61
    · refine lv_iconst (v := 0) hx hb dX3_gap_20 (by decide) ?_
      refine lv_goto (tgt := 61) hx hb dX3_gap_21 (by decide) ?_
      exact m_iret C hI hf dX3_gap_61
  · refine lv_iconst (v := (-1)) hx hb dX3_gap_8 (by decide) ?_
    refine lv_goto (tgt := 61) hx hb dX3_gap_9 (by decide) ?_
    exact m_iret C hI hf dX3_gap_61
/-! isRunning(I)Z -/
abbrev rmM_isRunning : Room := { frames := 3, cells := 0, slots := 0, locals := 64 }
def fM_isRunning (N : Nat) (x : MS) (l1 : Int32) : Option (Int32 × MS) :=
  b2 (fM_isThere N x l1) fun v2 x1 =>
  if v2 = 0 then
    some (0, x1)
  else
    b2 (fM_canPay N x1 l1) fun v4 x3 =>
    if v4 = 0 then
      some (0, x3)
    else
      some (1, x3)
theorem mm_isRunning (l : Launch) (N : Nat) {w : mO} {A : Nat → Prop} : ∀ (x : MS) (l1 : Int32) (r : Int32) (xr : MS), fM_isRunning N x l1 = some (r, xr) → mMet l yX3_isRunning (ws_ yX3_isRunning cX3_isRunning 2 (some .boolean)) rmM_isRunning [.ref (w.2.2.1 28), .int l1] w A x (some (.int r)) xr := by
  intro x l1 r xr hf
  refine m_start (cc := cX3_isRunning) (by decide +kernel) rfl (Nat.le_of_ble_eq_true rfl) rfl ?_
  intro p e s m args below meth c ls H locs C hI hl
  have hx := C.1.1
  have hb := C.1.2.1
  have hown := C.1.2.2.2.1
  have hts := C.1.2.2.2.2.1
  have hE := C.2.2
  rw [fM_isRunning] at hf
  refine lv_aload_n hx hb dX3_isRunning_0 rfl (lv_at hl 0 rfl) ?_
  refine lv_iload_n hx hb dX3_isRunning_1 rfl (lv_at hl 1 rfl) ?_
  refine m_calli (rest := []) C hI hf (mm_isThere l N _ _) rfl cqM_isThere ⟨rfl, rfl⟩ ⟨Nat.le_of_ble_eq_true rfl, Nat.le_of_ble_eq_true rfl⟩ rfl hl.1 rfl (Nat.le_of_ble_eq_true rfl) dX3_isRunning_2 (fun v2 x1 H locs hI hf => ?_)
  refine b_ifeq (tgt := 20) hx hb hf dX3_isRunning_5 (by decide) (fun hf => ?_) (fun hf => ?_)
  · refine lv_iconst (v := 0) hx hb dX3_isRunning_20 (by decide) ?_
    exact m_zretc C hI zb_0 hf dX3_isRunning_21
  · refine lv_aload_n hx hb dX3_isRunning_8 rfl (lv_at hl 0 rfl) ?_
    refine lv_iload_n hx hb dX3_isRunning_9 rfl (lv_at hl 1 rfl) ?_
    refine m_calli (rest := []) C hI hf (mm_canPay l N _ _) rfl cqM_canPay ⟨rfl, rfl⟩ ⟨Nat.le_of_ble_eq_true rfl, Nat.le_of_ble_eq_true rfl⟩ rfl hl.1 rfl (Nat.le_of_ble_eq_true rfl) dX3_isRunning_10 (fun v4 x3 H locs hI hf => ?_)
    refine b_ifeq (tgt := 20) hx hb hf dX3_isRunning_13 (by decide) (fun hf => ?_) (fun hf => ?_)
    · refine lv_iconst (v := 0) hx hb dX3_isRunning_20 (by decide) ?_
      exact m_zretc C hI zb_0 hf dX3_isRunning_21
    · refine lv_iconst (v := 1) hx hb dX3_isRunning_16 (by decide) ?_
      refine lv_goto (tgt := 21) hx hb dX3_isRunning_17 (by decide) ?_
      exact m_zretc C hI zb_1 hf dX3_isRunning_21
/-! runs(I)I -/
abbrev rmM_runs : Room := { frames := 4, cells := 0, slots := 0, locals := 85 }
def fM_runs_b72 (N : Nat) (k24 : MS → Int32 → Int32 → Int32 → Int32 → Int32 → Int32 → Option (Int32 × MS)) (x : MS) (l1 : Int32) (l2 : Int32) (l3 : Int32) (l4 : Int32) (l5 : Int32) (l6 : Int32) : Option (Int32 × MS) :=
  if l4 ≤ 0 then
    k24 x l1 l2 l3 l4 l5 (l6 + 1)
  else
    if l5 = (-1) then
      k24 x l1 l2 l3 l4 l6 (l6 + 1)
    else
      (rd 1725 (gA x 0) (16 + l6)).bind fun v1 =>
      (rd 1725 (gA x 0) (16 + l5)).bind fun v2 =>
      if v2 ≤ v1 then
        k24 x l1 l2 l3 l4 l5 (l6 + 1)
      else
        k24 x l1 l2 l3 l4 l6 (l6 + 1)
theorem w_fM_runs_b72 {N : Nat} {r : Int32} {xr : MS} {k24 : MS → Int32 → Int32 → Int32 → Int32 → Int32 → Int32 → Option (Int32 × MS)} (C : mC w A p s m args meth c cX3_runs 7 (some .int)) (hk24 : ∀ (x : MS) (l1 : Int32) (l2 : Int32) (l3 : Int32) (l4 : Int32) (l5 : Int32) (l6 : Int32) (H : Heap) (locs : List Loc) (ls : Array Slot), mI w A x s.heap H locs → lv_has ls 7 [(0, .ref (w.2.2.1 28)), (1, .int l1), (2, .int l2), (3, .int l3), (4, .int l4), (5, .int l5), (6, .int l6)] → k24 x l1 l2 l3 l4 l5 l6 = some (r, xr) → W p l e rmM_runs s m args below meth c H locs 0 0 (MQ below (mQ w A (some (.int r)) xr) args s 0 0 A) (F0 m 24 ls [])) : ∀ (x : MS) (l1 : Int32) (l2 : Int32) (l3 : Int32) (l4 : Int32) (l5 : Int32) (l6 : Int32) (H : Heap) (locs : List Loc) (ls : Array Slot), mI w A x s.heap H locs → lv_has ls 7 [(0, .ref (w.2.2.1 28)), (1, .int l1), (2, .int l2), (3, .int l3), (4, .int l4), (5, .int l5), (6, .int l6)] → fM_runs_b72 N k24 x l1 l2 l3 l4 l5 l6 = some (r, xr) → W p l e rmM_runs s m args below meth c H locs 0 0 (MQ below (mQ w A (some (.int r)) xr) args s 0 0 A) (F0 m 72 ls []) := by
  have hx := C.1.1
  have hb := C.1.2.1
  have hown := C.1.2.2.2.1
  have hts := C.1.2.2.2.2.1
  have hE := C.2.2
  intro x l1 l2 l3 l4 l5 l6 H locs ls hI hl hf
  rw [fM_runs_b72] at hf
  refine lv_iload hx hb dX3_runs_72 (lv_at hl 4 rfl) ?_
  refine b_ifle (tgt := 110) hx hb hf dX3_runs_74 (by decide) (fun hf => ?_) (fun hf => ?_)
  · refine lv_iinc (v := l6 + 1) (lv' := [(6, .int (l6 + 1)), (0, .ref (w.2.2.1 28)), (1, .int l1), (2, .int l2), (3, .int l3), (4, .int l4), (5, .int l5)]) hx hb dX3_runs_110 hl (k := 6) rfl rfl (by decide) rfl (fun ls hl => ?_)
    refine lv_goto (tgt := 24) hx hb dX3_runs_113 (by decide) ?_
    exact hk24 x l1 l2 l3 l4 l5 (l6 + 1) _ _ _ hI (lv_sub hl [1, 2, 3, 4, 5, 6, 0] rfl) hf
  · refine lv_iload hx hb dX3_runs_77 (lv_at hl 5 rfl) ?_
    refine lv_iconst (v := (-1)) hx hb dX3_runs_79 (by decide) ?_
    refine b_iceq (tgt := 106) hx hb hf dX3_runs_80 (by decide) (fun hf => ?_) (fun hf => ?_)
    · refine lv_iload hx hb dX3_runs_106 (lv_at hl 6 rfl) ?_
      refine lv_istore (lv' := [(5, .int l6), (0, .ref (w.2.2.1 28)), (1, .int l1), (2, .int l2), (3, .int l3), (4, .int l4), (6, .int l6)]) hx hb dX3_runs_108 hl (by decide) rfl (fun ls hl => ?_)
      refine lv_iinc (v := l6 + 1) (lv' := [(6, .int (l6 + 1)), (5, .int l6), (0, .ref (w.2.2.1 28)), (1, .int l1), (2, .int l2), (3, .int l3), (4, .int l4)]) hx hb dX3_runs_110 hl (k := 6) rfl rfl (by decide) rfl (fun ls hl => ?_)
      refine lv_goto (tgt := 24) hx hb dX3_runs_113 (by decide) ?_
      exact hk24 x l1 l2 l3 l4 l6 (l6 + 1) _ _ _ hI (lv_sub hl [2, 3, 4, 5, 6, 1, 0] rfl) hf
    · refine lv_aload_n hx hb dX3_runs_83 rfl (lv_at hl 0 rfl) ?_
      refine mg0 C hI dX3_runs_84 ?_
      refine lv_bipush (v := 16) hx hb dX3_runs_87 (by decide) ?_
      refine lv_iload hx hb dX3_runs_89 (lv_at hl 6 rfl) ?_
      refine lv_iadd hx hb dX3_runs_91 ?_
      refine ma0 C hI hf dX3_runs_92 (fun v1 hf => ?_)
      refine lv_aload_n hx hb dX3_runs_93 rfl (lv_at hl 0 rfl) ?_
      refine mg0 C hI dX3_runs_94 ?_
      refine lv_bipush (v := 16) hx hb dX3_runs_97 (by decide) ?_
      refine lv_iload hx hb dX3_runs_99 (lv_at hl 5 rfl) ?_
      refine lv_iadd hx hb dX3_runs_101 ?_
      refine ma0 C hI hf dX3_runs_102 (fun v2 hf => ?_)
      refine b_icge (tgt := 110) hx hb hf dX3_runs_103 (by decide) (fun hf => ?_) (fun hf => ?_)
      · refine lv_iinc (v := l6 + 1) (lv' := [(6, .int (l6 + 1)), (0, .ref (w.2.2.1 28)), (1, .int l1), (2, .int l2), (3, .int l3), (4, .int l4), (5, .int l5)]) hx hb dX3_runs_110 hl (k := 6) rfl rfl (by decide) rfl (fun ls hl => ?_)
        refine lv_goto (tgt := 24) hx hb dX3_runs_113 (by decide) ?_
        exact hk24 x l1 l2 l3 l4 l5 (l6 + 1) _ _ _ hI (lv_sub hl [1, 2, 3, 4, 5, 6, 0] rfl) hf
      · refine lv_iload hx hb dX3_runs_106 (lv_at hl 6 rfl) ?_
        refine lv_istore (lv' := [(5, .int l6), (0, .ref (w.2.2.1 28)), (1, .int l1), (2, .int l2), (3, .int l3), (4, .int l4), (6, .int l6)]) hx hb dX3_runs_108 hl (by decide) rfl (fun ls hl => ?_)
        refine lv_iinc (v := l6 + 1) (lv' := [(6, .int (l6 + 1)), (5, .int l6), (0, .ref (w.2.2.1 28)), (1, .int l1), (2, .int l2), (3, .int l3), (4, .int l4)]) hx hb dX3_runs_110 hl (k := 6) rfl rfl (by decide) rfl (fun ls hl => ?_)
        refine lv_goto (tgt := 24) hx hb dX3_runs_113 (by decide) ?_
        exact hk24 x l1 l2 l3 l4 l6 (l6 + 1) _ _ _ hI (lv_sub hl [2, 3, 4, 5, 6, 1, 0] rfl) hf
def fM_runs_b24 (N : Nat) : Nat → MS → Int32 → Int32 → Int32 → Int32 → Int32 → Int32 → Option (Int32 × MS)
  | 0, _, _, _, _, _, _, _ => none
  | n + 1, x, l1, l2, l3, l4, l5, l6 =>
  if (gA x 0 88) ≤ l6 then
    if l1 = 0 then
      some (l2, x)
    else
      if l1 = 1 then
        some (l3, x)
      else
        some (l5, x)
  else
    b2 (fM_isRunning N x l6) fun v2 x1 =>
    lt (if v2 = 0 then 0 else l4 + 1 : Int32) fun v3 =>
    if v3 ≤ l2 then
      fM_runs_b72 N (fM_runs_b24 N n) x1 l1 l2 l3 v3 l5 l6
    else
      fM_runs_b72 N (fM_runs_b24 N n) x1 l1 v3 ((l6 - v3) + 1) v3 l5 l6
theorem w_fM_runs_b24 {N : Nat} {r : Int32} {xr : MS} (C : mC w A p s m args meth c cX3_runs 7 (some .int)) : ∀ (n : Nat) (x : MS) (l1 : Int32) (l2 : Int32) (l3 : Int32) (l4 : Int32) (l5 : Int32) (l6 : Int32) (H : Heap) (locs : List Loc) (ls : Array Slot), mI w A x s.heap H locs → lv_has ls 7 [(0, .ref (w.2.2.1 28)), (1, .int l1), (2, .int l2), (3, .int l3), (4, .int l4), (5, .int l5), (6, .int l6)] → fM_runs_b24 N n x l1 l2 l3 l4 l5 l6 = some (r, xr) → W p l e rmM_runs s m args below meth c H locs 0 0 (MQ below (mQ w A (some (.int r)) xr) args s 0 0 A) (F0 m 24 ls []) := by
  have hx := C.1.1
  have hb := C.1.2.1
  have hown := C.1.2.2.2.1
  have hts := C.1.2.2.2.2.1
  have hE := C.2.2
  intro n
  induction n with
  | zero => intro x l1 l2 l3 l4 l5 l6 H locs ls hI hl hf; rw [fM_runs_b24] at hf; cases hf
  | succ n ih =>
  intro x l1 l2 l3 l4 l5 l6 H locs ls hI hl hf
  rw [fM_runs_b24] at hf
  refine lv_iload hx hb dX3_runs_24 (lv_at hl 6 rfl) ?_
  refine lv_aload_n hx hb dX3_runs_26 rfl (lv_at hl 0 rfl) ?_
  refine mg0 C hI dX3_runs_27 ?_
  refine lv_bipush (v := 88) hx hb dX3_runs_30 (by decide) ?_
  refine mac0 C hI rc1725_88 dX3_runs_32 ?_
  refine b_icge (tgt := 116) hx hb hf dX3_runs_33 (by decide) (fun hf => ?_) (fun hf => ?_)
  · refine lv_iload_n hx hb dX3_runs_116 rfl (lv_at hl 1 rfl) ?_
    refine b_ifne (tgt := 124) hx hb hf dX3_runs_117 (by decide) (fun hf => ?_) (fun hf => ?_)
    · refine lv_iload_n hx hb dX3_runs_124 rfl (lv_at hl 1 rfl) ?_
      refine lv_iconst (v := 1) hx hb dX3_runs_125 (by decide) ?_
      refine b_icne (tgt := 133) hx hb hf dX3_runs_126 (by decide) (fun hf => ?_) (fun hf => ?_)
      · refine lv_iload hx hb dX3_runs_133 (lv_at hl 5 rfl) ?_
        exact m_iret C hI hf dX3_runs_135
      · refine lv_iload_n hx hb dX3_runs_129 rfl (lv_at hl 3 rfl) ?_
        refine lv_goto (tgt := 135) hx hb dX3_runs_130 (by decide) ?_
        exact m_iret C hI hf dX3_runs_135
    · refine lv_iload_n hx hb dX3_runs_120 rfl (lv_at hl 2 rfl) ?_
      refine lv_goto (tgt := 135) hx hb dX3_runs_121 (by decide) ?_
      exact m_iret C hI hf dX3_runs_135
  · refine lv_aload_n hx hb dX3_runs_36 rfl (lv_at hl 0 rfl) ?_
    refine lv_iload hx hb dX3_runs_37 (lv_at hl 6 rfl) ?_
    refine m_calli (rest := []) C hI hf (mm_isRunning l N _ _) rfl cqM_isRunning ⟨rfl, rfl⟩ ⟨Nat.le_of_ble_eq_true rfl, Nat.le_of_ble_eq_true rfl⟩ rfl hl.1 rfl (Nat.le_of_ble_eq_true rfl) dX3_runs_39 (fun v2 x1 H locs hI hf => ?_)
    suffices hJ : ∀ v3 : Int32, (v3 = (if v2 = 0 then 0 else l4 + 1 : Int32)) → W p l e rmM_runs s m args below meth c H locs 0 0 (MQ below (mQ w A (some (.int r)) xr) args s 0 0 A) (F0 m 53 ls [.int v3]) by
      refine lv_if_eq (tgt := 52) hx hb dX3_runs_42 (by decide) (fun hc => ?_) (fun hc => ?_)
      · refine lv_iconst (v := 0) hx hb dX3_runs_52 (by decide) ?_
        exact hJ _ (if_pos hc).symm
      · refine lv_iload hx hb dX3_runs_45 (lv_at hl 4 rfl) ?_
        refine lv_iconst (v := 1) hx hb dX3_runs_47 (by decide) ?_
        refine lv_iadd hx hb dX3_runs_48 ?_
        refine lv_goto (tgt := 53) hx hb dX3_runs_49 (by decide) ?_
        exact hJ _ (if_neg hc).symm
    intro v3 hv
    have hf := lt_of hv hf
    refine lv_istore (lv' := [(4, .int v3), (0, .ref (w.2.2.1 28)), (1, .int l1), (2, .int l2), (3, .int l3), (5, .int l5), (6, .int l6)]) hx hb dX3_runs_53 hl (by decide) rfl (fun ls hl => ?_)
    refine lv_iload hx hb dX3_runs_55 (lv_at hl 0 rfl) ?_
    refine lv_iload_n hx hb dX3_runs_57 rfl (lv_at hl 3 rfl) ?_
    refine b_icle (tgt := 72) hx hb hf dX3_runs_58 (by decide) (fun hf => ?_) (fun hf => ?_)
    · exact w_fM_runs_b72 C ih x1 l1 l2 l3 v3 l5 l6 _ _ _ hI (lv_sub hl [1, 2, 3, 4, 0, 5, 6] rfl) hf
    · refine lv_iload hx hb dX3_runs_61 (lv_at hl 0 rfl) ?_
      refine lv_istore_n (lv' := [(2, .int v3), (4, .int v3), (0, .ref (w.2.2.1 28)), (1, .int l1), (3, .int l3), (5, .int l5), (6, .int l6)]) hx hb dX3_runs_63 rfl hl (by decide) rfl (fun ls hl => ?_)
      refine lv_iload hx hb dX3_runs_64 (lv_at hl 6 rfl) ?_
      refine lv_iload hx hb dX3_runs_66 (lv_at hl 1 rfl) ?_
      refine lv_isub hx hb dX3_runs_68 ?_
      refine lv_iconst (v := 1) hx hb dX3_runs_69 (by decide) ?_
      refine lv_iadd hx hb dX3_runs_70 ?_
      refine lv_istore_n (lv' := [(3, .int ((l6 - v3) + 1)), (2, .int v3), (4, .int v3), (0, .ref (w.2.2.1 28)), (1, .int l1), (5, .int l5), (6, .int l6)]) hx hb dX3_runs_71 rfl hl (by decide) rfl (fun ls hl => ?_)
      exact w_fM_runs_b72 C ih x1 l1 v3 ((l6 - v3) + 1) v3 l5 l6 _ _ _ hI (lv_sub hl [3, 4, 1, 0, 2, 5, 6] rfl) hf
def fM_runs (N : Nat) (x : MS) (l1 : Int32) : Option (Int32 × MS) :=
  (fM_isIn N l1 0 2).bind fun v1 =>
  if v1 = 0 then
    some ((-1), x)
  else
    fM_runs_b24 N N x l1 0 (-1) 0 (-1) 0
theorem mm_runs (l : Launch) (N : Nat) {w : mO} {A : Nat → Prop} : ∀ (x : MS) (l1 : Int32) (r : Int32) (xr : MS), fM_runs N x l1 = some (r, xr) → mMet l yX3_runs (ws_ yX3_runs cX3_runs 7 (some .int)) rmM_runs [.ref (w.2.2.1 28), .int l1] w A x (some (.int r)) xr := by
  intro x l1 r xr hf
  refine m_start (cc := cX3_runs) (by decide +kernel) rfl (Nat.le_of_ble_eq_true rfl) rfl ?_
  intro p e s m args below meth c ls H locs C hI hl
  have hx := C.1.1
  have hb := C.1.2.1
  have hown := C.1.2.2.2.1
  have hts := C.1.2.2.2.2.1
  have hE := C.2.2
  rw [fM_runs] at hf
  refine lv_iload_n hx hb dX3_runs_0 rfl (lv_at hl 1 rfl) ?_
  refine lv_iconst (v := 0) hx hb dX3_runs_1 (by decide) ?_
  refine lv_iconst (v := 2) hx hb dX3_runs_2 (by decide) ?_
  refine g_calliS (rest := []) C.1 hf (smM_isIn l N _ _ _) cqM_M_isIn ⟨rfl, rfl⟩ ⟨Nat.le_of_ble_eq_true rfl, Nat.le_of_ble_eq_true rfl⟩ rfl hl.1 rfl (Nat.le_of_ble_eq_true rfl) ⟨Nat.zero_le _, Nat.zero_le _⟩ dX3_runs_3 (fun v1 hf => ?_)
  refine b_ifne (tgt := 11) hx hb hf dX3_runs_6 (by decide) (fun hf => ?_) (fun hf => ?_)
  · refine lv_iconst (v := 0) hx hb dX3_runs_11 (by decide) ?_
    refine lv_istore_n (lv' := [(2, .int 0), (0, .ref (w.2.2.1 28)), (1, .int l1)]) hx hb dX3_runs_12 rfl hl (by decide) rfl (fun ls hl => ?_)
    refine lv_iconst (v := (-1)) hx hb dX3_runs_13 (by decide) ?_
    refine lv_istore_n (lv' := [(3, .int (-1)), (2, .int 0), (0, .ref (w.2.2.1 28)), (1, .int l1)]) hx hb dX3_runs_14 rfl hl (by decide) rfl (fun ls hl => ?_)
    refine lv_iconst (v := 0) hx hb dX3_runs_15 (by decide) ?_
    refine lv_istore (lv' := [(4, .int 0), (3, .int (-1)), (2, .int 0), (0, .ref (w.2.2.1 28)), (1, .int l1)]) hx hb dX3_runs_16 hl (by decide) rfl (fun ls hl => ?_)
    refine lv_iconst (v := (-1)) hx hb dX3_runs_18 (by decide) ?_
    refine lv_istore (lv' := [(5, .int (-1)), (4, .int 0), (3, .int (-1)), (2, .int 0), (0, .ref (w.2.2.1 28)), (1, .int l1)]) hx hb dX3_runs_19 hl (by decide) rfl (fun ls hl => ?_)
    refine lv_iconst (v := 0) hx hb dX3_runs_21 (by decide) ?_
    refine lv_istore (lv' := [(6, .int 0), (5, .int (-1)), (4, .int 0), (3, .int (-1)), (2, .int 0), (0, .ref (w.2.2.1 28)), (1, .int l1)]) hx hb dX3_runs_22 hl (by decide) rfl (fun ls hl => ?_)
    exact w_fM_runs_b24 C N x l1 0 (-1) 0 (-1) 0 _ _ _ hI (lv_sub hl [5, 6, 4, 3, 2, 1, 0] rfl) hf
  · refine lv_iconst (v := (-1)) hx hb dX3_runs_9 (by decide) ?_
    exact m_iret C hI hf dX3_runs_10
/-! laysSigns(II)V -/
abbrev rmM_laysSigns : Room := { frames := 1, cells := 0, slots := 0, locals := 21 }
def fM_laysSigns_b55 (N : Nat) (k15 : MS → Int32 → Int32 → Int32 → Int32 → Option MS) : Nat → MS → Int32 → Int32 → Int32 → Int32 → Int32 → Option MS
  | 0, _, _, _, _, _, _ => none
  | n + 1, x, l1, l2, l3, l4, l5 =>
  if (gA x 0 88) ≤ l5 then
    k15 x l1 l2 l3 (l4 + 1)
  else
    if ((l4 >>> (l5 &&& 31)) &&& 1) = 0 then
      fM_laysSigns_b55 N k15 n x l1 l2 l3 l4 (l5 + 1)
    else
      if ((l2 >>> (l5 &&& 31)) &&& 1) = 1 then
        fM_laysSigns_b55 N k15 n x l1 l2 l3 l4 (l5 + 1)
      else
        (rd 4096 (gA x 27) (l4 &&& ((1 <<< (l5 &&& 31)) ^^^ (-1)))).bind fun v1 =>
        (rd 1725 (gA x 0) (105 + (2 * l5))).bind fun v2 =>
        (fM_greater N v1 v2).bind fun v3 =>
        (rd 1725 (gA x 0) ((105 + (2 * l5)) + 1)).bind fun v4 =>
        if v4 < (v3 + 10) then
          fM_laysSigns_b55 N k15 n x l1 l2 l3 l4 (l5 + 1)
        else
          (rd 4096 (gA x 27) l4).bind fun v5 =>
          (fM_lesser N v5 (v3 + 10)).bind fun v6 =>
          (wr x 27 4096 l4 v6).bind fun x7 =>
          fM_laysSigns_b55 N k15 n x7 l1 l2 l3 l4 (l5 + 1)
theorem w_fM_laysSigns_b55 {N : Nat} {xr : MS} {k15 : MS → Int32 → Int32 → Int32 → Int32 → Option MS} (C : mC w A p s m args meth c cX3_laysSigns 7 none) (hk15 : ∀ (x : MS) (l1 : Int32) (l2 : Int32) (l3 : Int32) (l4 : Int32) (H : Heap) (locs : List Loc) (ls : Array Slot), mI w A x s.heap H locs → lv_has ls 7 [(0, .ref (w.2.2.1 28)), (1, .int l1), (2, .int l2), (3, .int l3), (4, .int l4)] → k15 x l1 l2 l3 l4 = some xr → W p l e rmM_laysSigns s m args below meth c H locs 0 0 (MQ below (mQ w A none xr) args s 0 0 A) (F0 m 15 ls [])) : ∀ (n : Nat) (x : MS) (l1 : Int32) (l2 : Int32) (l3 : Int32) (l4 : Int32) (l5 : Int32) (H : Heap) (locs : List Loc) (ls : Array Slot), mI w A x s.heap H locs → lv_has ls 7 [(0, .ref (w.2.2.1 28)), (1, .int l1), (2, .int l2), (3, .int l3), (4, .int l4), (5, .int l5)] → fM_laysSigns_b55 N k15 n x l1 l2 l3 l4 l5 = some xr → W p l e rmM_laysSigns s m args below meth c H locs 0 0 (MQ below (mQ w A none xr) args s 0 0 A) (F0 m 55 ls []) := by
  have hx := C.1.1
  have hb := C.1.2.1
  have hown := C.1.2.2.2.1
  have hts := C.1.2.2.2.2.1
  have hE := C.2.2
  intro n
  induction n with
  | zero => intro x l1 l2 l3 l4 l5 H locs ls hI hl hf; rw [fM_laysSigns_b55] at hf; cases hf
  | succ n ih =>
  intro x l1 l2 l3 l4 l5 H locs ls hI hl hf
  rw [fM_laysSigns_b55] at hf
  refine lv_iload hx hb dX3_laysSigns_55 (lv_at hl 5 rfl) ?_
  refine lv_aload_n hx hb dX3_laysSigns_57 rfl (lv_at hl 0 rfl) ?_
  refine mg0 C hI dX3_laysSigns_58 ?_
  refine lv_bipush (v := 88) hx hb dX3_laysSigns_61 (by decide) ?_
  refine mac0 C hI rc1725_88 dX3_laysSigns_63 ?_
  refine b_icge (tgt := 168) hx hb hf dX3_laysSigns_64 (by decide) (fun hf => ?_) (fun hf => ?_)
  · refine lv_iinc (v := l4 + 1) (lv' := [(4, .int (l4 + 1)), (0, .ref (w.2.2.1 28)), (1, .int l1), (2, .int l2), (3, .int l3), (5, .int l5)]) hx hb dX3_laysSigns_168 hl (k := 4) rfl rfl (by decide) rfl (fun ls hl => ?_)
    refine lv_goto (tgt := 15) hx hb dX3_laysSigns_171 (by decide) ?_
    exact hk15 x l1 l2 l3 (l4 + 1) _ _ _ hI (lv_sub hl [1, 2, 3, 4, 0] rfl) hf
  · refine lv_iload hx hb dX3_laysSigns_67 (lv_at hl 4 rfl) ?_
    refine lv_iload hx hb dX3_laysSigns_69 (lv_at hl 5 rfl) ?_
    refine lv_ishr hx hb dX3_laysSigns_71 ?_
    refine lv_iconst (v := 1) hx hb dX3_laysSigns_72 (by decide) ?_
    refine lv_iand hx hb dX3_laysSigns_73 ?_
    refine b_ifeq (tgt := 162) hx hb hf dX3_laysSigns_74 (by decide) (fun hf => ?_) (fun hf => ?_)
    · refine lv_iinc (v := l5 + 1) (lv' := [(5, .int (l5 + 1)), (0, .ref (w.2.2.1 28)), (1, .int l1), (2, .int l2), (3, .int l3), (4, .int l4)]) hx hb dX3_laysSigns_162 hl (k := 5) rfl rfl (by decide) rfl (fun ls hl => ?_)
      refine lv_goto (tgt := 55) hx hb dX3_laysSigns_165 (by decide) ?_
      exact ih x l1 l2 l3 l4 (l5 + 1) _ _ _ hI (lv_sub hl [1, 2, 3, 4, 5, 0] rfl) hf
    · refine lv_iload_n hx hb dX3_laysSigns_77 rfl (lv_at hl 2 rfl) ?_
      refine lv_iload hx hb dX3_laysSigns_78 (lv_at hl 5 rfl) ?_
      refine lv_ishr hx hb dX3_laysSigns_80 ?_
      refine lv_iconst (v := 1) hx hb dX3_laysSigns_81 (by decide) ?_
      refine lv_iand hx hb dX3_laysSigns_82 ?_
      refine lv_iconst (v := 1) hx hb dX3_laysSigns_83 (by decide) ?_
      refine b_icne (tgt := 90) hx hb hf dX3_laysSigns_84 (by decide) (fun hf => ?_) (fun hf => ?_)
      · refine lv_aload_n hx hb dX3_laysSigns_90 rfl (lv_at hl 0 rfl) ?_
        refine mg27 C hI dX3_laysSigns_91 ?_
        refine lv_iload hx hb dX3_laysSigns_94 (lv_at hl 4 rfl) ?_
        refine lv_iconst (v := 1) hx hb dX3_laysSigns_96 (by decide) ?_
        refine lv_iload hx hb dX3_laysSigns_97 (lv_at hl 5 rfl) ?_
        refine lv_ishl hx hb dX3_laysSigns_99 ?_
        refine lv_iconst (v := (-1)) hx hb dX3_laysSigns_100 (by decide) ?_
        refine lv_ixor hx hb dX3_laysSigns_101 ?_
        refine lv_iand hx hb dX3_laysSigns_102 ?_
        refine ma27 C hI hf dX3_laysSigns_103 (fun v1 hf => ?_)
        refine lv_aload_n hx hb dX3_laysSigns_104 rfl (lv_at hl 0 rfl) ?_
        refine mg0 C hI dX3_laysSigns_105 ?_
        refine lv_bipush (v := 105) hx hb dX3_laysSigns_108 (by decide) ?_
        refine lv_iconst (v := 2) hx hb dX3_laysSigns_110 (by decide) ?_
        refine lv_iload hx hb dX3_laysSigns_111 (lv_at hl 5 rfl) ?_
        refine lv_imul hx hb dX3_laysSigns_113 ?_
        refine lv_iadd hx hb dX3_laysSigns_114 ?_
        refine ma0 C hI hf dX3_laysSigns_115 (fun v2 hf => ?_)
        refine g_calliS (rest := []) C.1 hf (smM_greater l N _ _) cqM_M_greater ⟨rfl, rfl⟩ ⟨Nat.le_of_ble_eq_true rfl, Nat.le_of_ble_eq_true rfl⟩ rfl hl.1 rfl (Nat.le_of_ble_eq_true rfl) ⟨Nat.zero_le _, Nat.zero_le _⟩ dX3_laysSigns_116 (fun v3 hf => ?_)
        refine lv_bipush (v := 10) hx hb dX3_laysSigns_119 (by decide) ?_
        refine lv_iadd hx hb dX3_laysSigns_121 ?_
        refine lv_istore (lv' := [(6, .int (v3 + 10)), (0, .ref (w.2.2.1 28)), (1, .int l1), (2, .int l2), (3, .int l3), (4, .int l4), (5, .int l5)]) hx hb dX3_laysSigns_122 hl (by decide) rfl (fun ls hl => ?_)
        refine lv_iload hx hb dX3_laysSigns_124 (lv_at hl 0 rfl) ?_
        refine lv_aload_n hx hb dX3_laysSigns_126 rfl (lv_at hl 1 rfl) ?_
        refine mg0 C hI dX3_laysSigns_127 ?_
        refine lv_bipush (v := 105) hx hb dX3_laysSigns_130 (by decide) ?_
        refine lv_iconst (v := 2) hx hb dX3_laysSigns_132 (by decide) ?_
        refine lv_iload hx hb dX3_laysSigns_133 (lv_at hl 6 rfl) ?_
        refine lv_imul hx hb dX3_laysSigns_135 ?_
        refine lv_iadd hx hb dX3_laysSigns_136 ?_
        refine lv_iconst (v := 1) hx hb dX3_laysSigns_137 (by decide) ?_
        refine lv_iadd hx hb dX3_laysSigns_138 ?_
        refine ma0 C hI hf dX3_laysSigns_139 (fun v4 hf => ?_)
        refine b_icgt (tgt := 162) hx hb hf dX3_laysSigns_140 (by decide) (fun hf => ?_) (fun hf => ?_)
        · refine lv_iinc (v := l5 + 1) (lv' := [(5, .int (l5 + 1)), (6, .int (v3 + 10)), (0, .ref (w.2.2.1 28)), (1, .int l1), (2, .int l2), (3, .int l3), (4, .int l4)]) hx hb dX3_laysSigns_162 hl (k := 6) rfl rfl (by decide) rfl (fun ls hl => ?_)
          refine lv_goto (tgt := 55) hx hb dX3_laysSigns_165 (by decide) ?_
          exact ih x l1 l2 l3 l4 (l5 + 1) _ _ _ hI (lv_sub hl [2, 3, 4, 5, 6, 0] rfl) hf
        · refine lv_aload_n hx hb dX3_laysSigns_143 rfl (lv_at hl 1 rfl) ?_
          refine mg27 C hI dX3_laysSigns_144 ?_
          refine lv_iload hx hb dX3_laysSigns_147 (lv_at hl 5 rfl) ?_
          refine lv_aload_n hx hb dX3_laysSigns_149 rfl (lv_at hl 1 rfl) ?_
          refine mg27 C hI dX3_laysSigns_150 ?_
          refine lv_iload hx hb dX3_laysSigns_153 (lv_at hl 5 rfl) ?_
          refine ma27 C hI hf dX3_laysSigns_155 (fun v5 hf => ?_)
          refine lv_iload hx hb dX3_laysSigns_156 (lv_at hl 0 rfl) ?_
          refine g_calliS (rest := [.int l4, .ref (w.2.2.1 27)]) C.1 hf (smM_lesser l N _ _) cqM_M_lesser ⟨rfl, rfl⟩ ⟨Nat.le_of_ble_eq_true rfl, Nat.le_of_ble_eq_true rfl⟩ rfl hl.1 rfl (Nat.le_of_ble_eq_true rfl) ⟨Nat.zero_le _, Nat.zero_le _⟩ dX3_laysSigns_158 (fun v6 hf => ?_)
          refine ms27 C hI hf dX3_laysSigns_161 (fun x7 H locs hI hf => ?_)
          refine lv_iinc (v := l5 + 1) (lv' := [(5, .int (l5 + 1)), (6, .int (v3 + 10)), (0, .ref (w.2.2.1 28)), (1, .int l1), (2, .int l2), (3, .int l3), (4, .int l4)]) hx hb dX3_laysSigns_162 hl (k := 6) rfl rfl (by decide) rfl (fun ls hl => ?_)
          refine lv_goto (tgt := 55) hx hb dX3_laysSigns_165 (by decide) ?_
          exact ih x7 l1 l2 l3 l4 (l5 + 1) _ _ _ hI (lv_sub hl [2, 3, 4, 5, 6, 0] rfl) hf
      · refine lv_goto (tgt := 162) hx hb dX3_laysSigns_87 (by decide) ?_
        refine lv_iinc (v := l5 + 1) (lv' := [(5, .int (l5 + 1)), (0, .ref (w.2.2.1 28)), (1, .int l1), (2, .int l2), (3, .int l3), (4, .int l4)]) hx hb dX3_laysSigns_162 hl (k := 5) rfl rfl (by decide) rfl (fun ls hl => ?_)
        refine lv_goto (tgt := 55) hx hb dX3_laysSigns_165 (by decide) ?_
        exact ih x l1 l2 l3 l4 (l5 + 1) _ _ _ hI (lv_sub hl [1, 2, 3, 4, 5, 0] rfl) hf
def fM_laysSigns_b15 (N : Nat) : Nat → MS → Int32 → Int32 → Int32 → Int32 → Option MS
  | 0, _, _, _, _, _ => none
  | n + 1, x, l1, l2, l3, l4 =>
  if l3 < l4 then
    some x
  else
    if (l4 &&& l2) = l2 then
      lt (if l4 = l2 then l1 else 1000000000 : Int32) fun v1 =>
      (wr x 27 4096 l4 v1).bind fun x2 =>
      fM_laysSigns_b55 N (fM_laysSigns_b15 N n) N x2 l1 l2 l3 l4 0
    else
      fM_laysSigns_b15 N n x l1 l2 l3 (l4 + 1)
theorem w_fM_laysSigns_b15 {N : Nat} {xr : MS} (C : mC w A p s m args meth c cX3_laysSigns 7 none) : ∀ (n : Nat) (x : MS) (l1 : Int32) (l2 : Int32) (l3 : Int32) (l4 : Int32) (H : Heap) (locs : List Loc) (ls : Array Slot), mI w A x s.heap H locs → lv_has ls 7 [(0, .ref (w.2.2.1 28)), (1, .int l1), (2, .int l2), (3, .int l3), (4, .int l4)] → fM_laysSigns_b15 N n x l1 l2 l3 l4 = some xr → W p l e rmM_laysSigns s m args below meth c H locs 0 0 (MQ below (mQ w A none xr) args s 0 0 A) (F0 m 15 ls []) := by
  have hx := C.1.1
  have hb := C.1.2.1
  have hown := C.1.2.2.2.1
  have hts := C.1.2.2.2.2.1
  have hE := C.2.2
  intro n
  induction n with
  | zero => intro x l1 l2 l3 l4 H locs ls hI hl hf; rw [fM_laysSigns_b15] at hf; cases hf
  | succ n ih =>
  intro x l1 l2 l3 l4 H locs ls hI hl hf
  rw [fM_laysSigns_b15] at hf
  refine lv_iload hx hb dX3_laysSigns_15 (lv_at hl 4 rfl) ?_
  refine lv_iload_n hx hb dX3_laysSigns_17 rfl (lv_at hl 3 rfl) ?_
  refine b_icgt (tgt := 174) hx hb hf dX3_laysSigns_18 (by decide) (fun hf => ?_) (fun hf => ?_)
  · exact m_vret C hI hf dX3_laysSigns_174
  · refine lv_iload hx hb dX3_laysSigns_21 (lv_at hl 4 rfl) ?_
    refine lv_iload_n hx hb dX3_laysSigns_23 rfl (lv_at hl 2 rfl) ?_
    refine lv_iand hx hb dX3_laysSigns_24 ?_
    refine lv_iload_n hx hb dX3_laysSigns_25 rfl (lv_at hl 2 rfl) ?_
    refine b_iceq (tgt := 32) hx hb hf dX3_laysSigns_26 (by decide) (fun hf => ?_) (fun hf => ?_)
    · refine lv_aload_n hx hb dX3_laysSigns_32 rfl (lv_at hl 0 rfl) ?_
      refine mg27 C hI dX3_laysSigns_33 ?_
      refine lv_iload hx hb dX3_laysSigns_36 (lv_at hl 4 rfl) ?_
      refine lv_iload hx hb dX3_laysSigns_38 (lv_at hl 4 rfl) ?_
      refine lv_iload_n hx hb dX3_laysSigns_40 rfl (lv_at hl 2 rfl) ?_
      suffices hJ : ∀ v1 : Int32, (v1 = (if l4 = l2 then l1 else 1000000000 : Int32)) → W p l e rmM_laysSigns s m args below meth c H locs 0 0 (MQ below (mQ w A none xr) args s 0 0 A) (F0 m 51 ls [.int v1, .int l4, .ref (w.2.2.1 27)]) by
        refine lv_icmp_ne (tgt := 48) hx hb dX3_laysSigns_41 (by decide) (fun hc => ?_) (fun hc => ?_)
        · refine lv_ldcw hx hb hown (hts _ q1964) dX3_laysSigns_48 ?_
          exact hJ _ (if_neg hc).symm
        · refine lv_iload_n hx hb dX3_laysSigns_44 rfl (lv_at hl 1 rfl) ?_
          refine lv_goto (tgt := 51) hx hb dX3_laysSigns_45 (by decide) ?_
          exact hJ _ (if_pos hc).symm
      intro v1 hv
      have hf := lt_of hv hf
      refine ms27 C hI hf dX3_laysSigns_51 (fun x2 H locs hI hf => ?_)
      refine lv_iconst (v := 0) hx hb dX3_laysSigns_52 (by decide) ?_
      refine lv_istore (lv' := [(5, .int 0), (0, .ref (w.2.2.1 28)), (1, .int l1), (2, .int l2), (3, .int l3), (4, .int l4)]) hx hb dX3_laysSigns_53 hl (by decide) rfl (fun ls hl => ?_)
      exact w_fM_laysSigns_b55 C ih N x2 l1 l2 l3 l4 0 _ _ _ hI (lv_sub hl [1, 2, 3, 4, 5, 0] rfl) hf
    · refine lv_goto (tgt := 168) hx hb dX3_laysSigns_29 (by decide) ?_
      refine lv_iinc (v := l4 + 1) (lv' := [(4, .int (l4 + 1)), (0, .ref (w.2.2.1 28)), (1, .int l1), (2, .int l2), (3, .int l3)]) hx hb dX3_laysSigns_168 hl (k := 4) rfl rfl (by decide) rfl (fun ls hl => ?_)
      refine lv_goto (tgt := 15) hx hb dX3_laysSigns_171 (by decide) ?_
      exact ih x l1 l2 l3 (l4 + 1) _ _ _ hI (lv_sub hl [1, 2, 3, 4, 0] rfl) hf
def fM_laysSigns (N : Nat) (x : MS) (l1 : Int32) (l2 : Int32) : Option MS :=
  fM_laysSigns_b15 N N x l1 l2 ((1 <<< ((gA x 0 88) &&& 31)) - 1) 0
theorem mm_laysSigns (l : Launch) (N : Nat) {w : mO} {A : Nat → Prop} : ∀ (x : MS) (l1 : Int32) (l2 : Int32) (xr : MS), fM_laysSigns N x l1 l2 = some xr → mMet l yX3_laysSigns (ws_ yX3_laysSigns cX3_laysSigns 7 none) rmM_laysSigns [.ref (w.2.2.1 28), .int l1, .int l2] w A x none xr := by
  intro x l1 l2 xr hf
  refine m_start (cc := cX3_laysSigns) (by decide +kernel) rfl (Nat.le_of_ble_eq_true rfl) rfl ?_
  intro p e s m args below meth c ls H locs C hI hl
  have hx := C.1.1
  have hb := C.1.2.1
  have hown := C.1.2.2.2.1
  have hts := C.1.2.2.2.2.1
  have hE := C.2.2
  rw [fM_laysSigns] at hf
  refine lv_iconst (v := 1) hx hb dX3_laysSigns_0 (by decide) ?_
  refine lv_aload_n hx hb dX3_laysSigns_1 rfl (lv_at hl 0 rfl) ?_
  refine mg0 C hI dX3_laysSigns_2 ?_
  refine lv_bipush (v := 88) hx hb dX3_laysSigns_5 (by decide) ?_
  refine mac0 C hI rc1725_88 dX3_laysSigns_7 ?_
  refine lv_ishl hx hb dX3_laysSigns_8 ?_
  refine lv_iconst (v := 1) hx hb dX3_laysSigns_9 (by decide) ?_
  refine lv_isub hx hb dX3_laysSigns_10 ?_
  refine lv_istore_n (lv' := [(3, .int ((1 <<< ((gA x 0 88) &&& 31)) - 1)), (0, .ref (w.2.2.1 28)), (1, .int l1), (2, .int l2)]) hx hb dX3_laysSigns_11 rfl hl (by decide) rfl (fun ls hl => ?_)
  refine lv_iconst (v := 0) hx hb dX3_laysSigns_12 (by decide) ?_
  refine lv_istore (lv' := [(4, .int 0), (3, .int ((1 <<< ((gA x 0 88) &&& 31)) - 1)), (0, .ref (w.2.2.1 28)), (1, .int l1), (2, .int l2)]) hx hb dX3_laysSigns_13 hl (by decide) rfl (fun ls hl => ?_)
  exact w_fM_laysSigns_b15 C N x l1 l2 ((1 <<< ((gA x 0 88) &&& 31)) - 1) 0 _ _ _ hI (lv_sub hl [2, 3, 4, 1, 0] rfl) hf
/-! mostSigned()I -/
abbrev rmM_mostSigned : Room := { frames := 1, cells := 0, slots := 0, locals := 22 }
def fM_mostSigned_b4 (N : Nat) : Nat → MS → Int32 → Int32 → Option (Int32 × MS)
  | 0, _, _, _ => none
  | n + 1, x, l1, l2 =>
  if (1 <<< ((gA x 0 88) &&& 31)) ≤ l2 then
    some (l1, x)
  else
    (rd 4096 (gA x 27) l2).bind fun v1 =>
    if 1000000000 ≤ v1 then
      fM_mostSigned_b4 N n x l1 (l2 + 1)
    else
      (fM_count N l2).bind fun v2 =>
      (fM_greater N l1 v2).bind fun v3 =>
      fM_mostSigned_b4 N n x v3 (l2 + 1)
theorem w_fM_mostSigned_b4 {N : Nat} {r : Int32} {xr : MS} (C : mC w A p s m args meth c cX3_mostSigned 3 (some .int)) : ∀ (n : Nat) (x : MS) (l1 : Int32) (l2 : Int32) (H : Heap) (locs : List Loc) (ls : Array Slot), mI w A x s.heap H locs → lv_has ls 3 [(0, .ref (w.2.2.1 28)), (1, .int l1), (2, .int l2)] → fM_mostSigned_b4 N n x l1 l2 = some (r, xr) → W p l e rmM_mostSigned s m args below meth c H locs 0 0 (MQ below (mQ w A (some (.int r)) xr) args s 0 0 A) (F0 m 4 ls []) := by
  have hx := C.1.1
  have hb := C.1.2.1
  have hown := C.1.2.2.2.1
  have hts := C.1.2.2.2.2.1
  have hE := C.2.2
  intro n
  induction n with
  | zero => intro x l1 l2 H locs ls hI hl hf; rw [fM_mostSigned_b4] at hf; cases hf
  | succ n ih =>
  intro x l1 l2 H locs ls hI hl hf
  rw [fM_mostSigned_b4] at hf
  refine lv_iload_n hx hb dX3_mostSigned_4 rfl (lv_at hl 2 rfl) ?_
  refine lv_iconst (v := 1) hx hb dX3_mostSigned_5 (by decide) ?_
  refine lv_aload_n hx hb dX3_mostSigned_6 rfl (lv_at hl 0 rfl) ?_
  refine mg0 C hI dX3_mostSigned_7 ?_
  refine lv_bipush (v := 88) hx hb dX3_mostSigned_10 (by decide) ?_
  refine mac0 C hI rc1725_88 dX3_mostSigned_12 ?_
  refine lv_ishl hx hb dX3_mostSigned_13 ?_
  refine b_icge (tgt := 48) hx hb hf dX3_mostSigned_14 (by decide) (fun hf => ?_) (fun hf => ?_)
  · refine lv_iload_n hx hb dX3_mostSigned_48 rfl (lv_at hl 1 rfl) ?_
    exact m_iret C hI hf dX3_mostSigned_49
  · refine lv_aload_n hx hb dX3_mostSigned_17 rfl (lv_at hl 0 rfl) ?_
    refine mg27 C hI dX3_mostSigned_18 ?_
    refine lv_iload_n hx hb dX3_mostSigned_21 rfl (lv_at hl 2 rfl) ?_
    refine ma27 C hI hf dX3_mostSigned_22 (fun v1 hf => ?_)
    refine lv_ldcw hx hb hown (hts _ q1964) dX3_mostSigned_23 ?_
    refine b_icge (tgt := 40) hx hb hf dX3_mostSigned_26 (by decide) (fun hf => ?_) (fun hf => ?_)
    · refine lv_iload_n hx hb dX3_mostSigned_40 rfl (lv_at hl 1 rfl) ?_
      refine lv_istore_n (lv' := [(1, .int l1), (0, .ref (w.2.2.1 28)), (2, .int l2)]) hx hb dX3_mostSigned_41 rfl hl (by decide) rfl (fun ls hl => ?_)
      refine lv_iinc (v := l2 + 1) (lv' := [(2, .int (l2 + 1)), (1, .int l1), (0, .ref (w.2.2.1 28))]) hx hb dX3_mostSigned_42 hl (k := 2) rfl rfl (by decide) rfl (fun ls hl => ?_)
      refine lv_goto (tgt := 4) hx hb dX3_mostSigned_45 (by decide) ?_
      exact ih x l1 (l2 + 1) _ _ _ hI (lv_sub hl [2, 1, 0] rfl) hf
    · refine lv_iload_n hx hb dX3_mostSigned_29 rfl (lv_at hl 1 rfl) ?_
      refine lv_iload_n hx hb dX3_mostSigned_30 rfl (lv_at hl 2 rfl) ?_
      refine g_calliS (rest := [.int l1]) C.1 hf (smM_count l N _) cqM_M_count ⟨rfl, rfl⟩ ⟨Nat.le_of_ble_eq_true rfl, Nat.le_of_ble_eq_true rfl⟩ rfl hl.1 rfl (Nat.le_of_ble_eq_true rfl) ⟨Nat.zero_le _, Nat.zero_le _⟩ dX3_mostSigned_31 (fun v2 hf => ?_)
      refine g_calliS (rest := []) C.1 hf (smM_greater l N _ _) cqM_M_greater ⟨rfl, rfl⟩ ⟨Nat.le_of_ble_eq_true rfl, Nat.le_of_ble_eq_true rfl⟩ rfl hl.1 rfl (Nat.le_of_ble_eq_true rfl) ⟨Nat.zero_le _, Nat.zero_le _⟩ dX3_mostSigned_34 (fun v3 hf => ?_)
      refine lv_goto (tgt := 41) hx hb dX3_mostSigned_37 (by decide) ?_
      refine lv_istore_n (lv' := [(1, .int v3), (0, .ref (w.2.2.1 28)), (2, .int l2)]) hx hb dX3_mostSigned_41 rfl hl (by decide) rfl (fun ls hl => ?_)
      refine lv_iinc (v := l2 + 1) (lv' := [(2, .int (l2 + 1)), (1, .int v3), (0, .ref (w.2.2.1 28))]) hx hb dX3_mostSigned_42 hl (k := 2) rfl rfl (by decide) rfl (fun ls hl => ?_)
      refine lv_goto (tgt := 4) hx hb dX3_mostSigned_45 (by decide) ?_
      exact ih x v3 (l2 + 1) _ _ _ hI (lv_sub hl [2, 1, 0] rfl) hf
def fM_mostSigned (N : Nat) (x : MS) : Option (Int32 × MS) :=
  fM_mostSigned_b4 N N x 0 0
theorem mm_mostSigned (l : Launch) (N : Nat) {w : mO} {A : Nat → Prop} : ∀ (x : MS) (r : Int32) (xr : MS), fM_mostSigned N x  = some (r, xr) → mMet l yX3_mostSigned (ws_ yX3_mostSigned cX3_mostSigned 3 (some .int)) rmM_mostSigned [.ref (w.2.2.1 28)] w A x (some (.int r)) xr := by
  intro x  r xr hf
  refine m_start (cc := cX3_mostSigned) (by decide +kernel) rfl (Nat.le_of_ble_eq_true rfl) rfl ?_
  intro p e s m args below meth c ls H locs C hI hl
  have hx := C.1.1
  have hb := C.1.2.1
  have hown := C.1.2.2.2.1
  have hts := C.1.2.2.2.2.1
  have hE := C.2.2
  rw [fM_mostSigned] at hf
  refine lv_iconst (v := 0) hx hb dX3_mostSigned_0 (by decide) ?_
  refine lv_istore_n (lv' := [(1, .int 0), (0, .ref (w.2.2.1 28))]) hx hb dX3_mostSigned_1 rfl hl (by decide) rfl (fun ls hl => ?_)
  refine lv_iconst (v := 0) hx hb dX3_mostSigned_2 (by decide) ?_
  refine lv_istore_n (lv' := [(2, .int 0), (1, .int 0), (0, .ref (w.2.2.1 28))]) hx hb dX3_mostSigned_3 rfl hl (by decide) rfl (fun ls hl => ?_)
  exact w_fM_mostSigned_b4 C N x 0 0 _ _ _ hI (lv_sub hl [2, 1, 0] rfl) hf
