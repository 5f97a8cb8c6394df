set_option maxRecDepth 100000
variable {p : Program} {l : Launch} {e : Env} {R : Room} {s : State} {m : MethodId} {args : Array Value} {below : List Frame} {meth : Method} {c : Code} {H : Heap} {locs : List Loc} {Q : State → Prop}
variable {w : mO} {A : Nat → Prop}
/-! putsPhones()I -/
abbrev rmM_putsPhones : Room := { frames := 0, cells := 0, slots := 0, locals := 0 }
def fM_putsPhones_b55 (N : Nat) : Nat → MS → Int32 → Option (Int32 × MS)
  | 0, _, _ => none
  | n + 1, x, l1 =>
  if (gS x 15) ≤ l1 then
    some (gS x 15, x)
  else
    (rd 80 (gA x 8) (3 * l1)).bind fun v1 =>
    (rd 80 (gA x 8) ((3 * l1) + 1)).bind fun v2 =>
    (wr x 0 1725 (105 + (2 * v1)) v2).bind fun x3 =>
    (rd 80 (gA x3 8) (3 * l1)).bind fun v4 =>
    (rd 80 (gA x3 8) ((3 * l1) + 2)).bind fun v5 =>
    (wr x3 0 1725 ((105 + (2 * v4)) + 1) v5).bind fun x6 =>
    fM_putsPhones_b55 N n x6 (l1 + 1)
theorem w_fM_putsPhones_b55 {N : Nat} {r : Int32} {xr : MS} (C : mC w A p s m args meth c cX3_putsPhones 2 (some .int)) : ∀ (n : Nat) (x : MS) (l1 : Int32) (H : Heap) (locs : List Loc) (ls : Array Slot), mI w A x s.heap H locs → lv_has ls 2 [(0, .ref (w.2.2.1 28)), (1, .int l1)] → fM_putsPhones_b55 N n x l1 = some (r, xr) → W p l e rmM_putsPhones s m args below meth c H locs 0 0 (MQ below (mQ w A (some (.int r)) xr) args s 0 0 A) (F0 m 55 ls []) := by
  have hx := C.1.1
  have hb := C.1.2.1
  have hown := C.1.2.2.2.1
  have hts := C.1.2.2.2.2.1
  have hE := C.2.2
  intro n
  induction n with
  | zero => intro x l1 H locs ls hI hl hf; rw [fM_putsPhones_b55] at hf; cases hf
  | succ n ih =>
  intro x l1 H locs ls hI hl hf
  rw [fM_putsPhones_b55] at hf
  refine lv_iload_n hx hb dX3_putsPhones_55 rfl (lv_at hl 1 rfl) ?_
  refine lv_aload_n hx hb dX3_putsPhones_56 rfl (lv_at hl 0 rfl) ?_
  refine mg15 C hI dX3_putsPhones_57 ?_
  refine b_icge (tgt := 127) hx hb hf dX3_putsPhones_60 (by decide) (fun hf => ?_) (fun hf => ?_)
  · refine lv_aload_n hx hb dX3_putsPhones_127 rfl (lv_at hl 0 rfl) ?_
    refine mg15 C hI dX3_putsPhones_128 ?_
    exact m_iret C hI hf dX3_putsPhones_131
  · refine lv_aload_n hx hb dX3_putsPhones_63 rfl (lv_at hl 0 rfl) ?_
    refine mg0 C hI dX3_putsPhones_64 ?_
    refine lv_bipush (v := 105) hx hb dX3_putsPhones_67 (by decide) ?_
    refine lv_iconst (v := 2) hx hb dX3_putsPhones_69 (by decide) ?_
    refine lv_aload_n hx hb dX3_putsPhones_70 rfl (lv_at hl 0 rfl) ?_
    refine mg8 C hI dX3_putsPhones_71 ?_
    refine lv_iconst (v := 3) hx hb dX3_putsPhones_74 (by decide) ?_
    refine lv_iload_n hx hb dX3_putsPhones_75 rfl (lv_at hl 1 rfl) ?_
    refine lv_imul hx hb dX3_putsPhones_76 ?_
    refine ma8 C hI hf dX3_putsPhones_77 (fun v1 hf => ?_)
    refine lv_imul hx hb dX3_putsPhones_78 ?_
    refine lv_iadd hx hb dX3_putsPhones_79 ?_
    refine lv_aload_n hx hb dX3_putsPhones_80 rfl (lv_at hl 0 rfl) ?_
    refine mg8 C hI dX3_putsPhones_81 ?_
    refine lv_iconst (v := 3) hx hb dX3_putsPhones_84 (by decide) ?_
    refine lv_iload_n hx hb dX3_putsPhones_85 rfl (lv_at hl 1 rfl) ?_
    refine lv_imul hx hb dX3_putsPhones_86 ?_
    refine lv_iconst (v := 1) hx hb dX3_putsPhones_87 (by decide) ?_
    refine lv_iadd hx hb dX3_putsPhones_88 ?_
    refine ma8 C hI hf dX3_putsPhones_89 (fun v2 hf => ?_)
    refine ms0 C hI hf dX3_putsPhones_90 (fun x3 H locs hI hf => ?_)
    refine lv_aload_n hx hb dX3_putsPhones_91 rfl (lv_at hl 0 rfl) ?_
    refine mg0 C hI dX3_putsPhones_92 ?_
    refine lv_bipush (v := 105) hx hb dX3_putsPhones_95 (by decide) ?_
    refine lv_iconst (v := 2) hx hb dX3_putsPhones_97 (by decide) ?_
    refine lv_aload_n hx hb dX3_putsPhones_98 rfl (lv_at hl 0 rfl) ?_
    refine mg8 C hI dX3_putsPhones_99 ?_
    refine lv_iconst (v := 3) hx hb dX3_putsPhones_102 (by decide) ?_
    refine lv_iload_n hx hb dX3_putsPhones_103 rfl (lv_at hl 1 rfl) ?_
    refine lv_imul hx hb dX3_putsPhones_104 ?_
    refine ma8 C hI hf dX3_putsPhones_105 (fun v4 hf => ?_)
    refine lv_imul hx hb dX3_putsPhones_106 ?_
    refine lv_iadd hx hb dX3_putsPhones_107 ?_
    refine lv_iconst (v := 1) hx hb dX3_putsPhones_108 (by decide) ?_
    refine lv_iadd hx hb dX3_putsPhones_109 ?_
    refine lv_aload_n hx hb dX3_putsPhones_110 rfl (lv_at hl 0 rfl) ?_
    refine mg8 C hI dX3_putsPhones_111 ?_
    refine lv_iconst (v := 3) hx hb dX3_putsPhones_114 (by decide) ?_
    refine lv_iload_n hx hb dX3_putsPhones_115 rfl (lv_at hl 1 rfl) ?_
    refine lv_imul hx hb dX3_putsPhones_116 ?_
    refine lv_iconst (v := 2) hx hb dX3_putsPhones_117 (by decide) ?_
    refine lv_iadd hx hb dX3_putsPhones_118 ?_
    refine ma8 C hI hf dX3_putsPhones_119 (fun v5 hf => ?_)
    refine ms0 C hI hf dX3_putsPhones_120 (fun x6 H locs hI hf => ?_)
    refine lv_iinc (v := l1 + 1) (lv' := [(1, .int (l1 + 1)), (0, .ref (w.2.2.1 28))]) hx hb dX3_putsPhones_121 hl (k := 1) rfl rfl (by decide) rfl (fun ls hl => ?_)
    refine lv_goto (tgt := 55) hx hb dX3_putsPhones_124 (by decide) ?_
    exact ih x6 (l1 + 1) _ _ _ hI (lv_sub hl [1, 0] rfl) hf
def fM_putsPhones_b13 (N : Nat) : Nat → MS → Int32 → Option (Int32 × MS)
  | 0, _, _ => none
  | n + 1, x, l1 =>
  if 12 ≤ l1 then
    fM_putsPhones_b55 N N x 0
  else
    (wr x 0 1725 (105 + (2 * l1)) 0).bind fun x1 =>
    (wr x1 0 1725 ((105 + (2 * l1)) + 1) 240).bind fun x2 =>
    fM_putsPhones_b13 N n x2 (l1 + 1)
theorem w_fM_putsPhones_b13 {N : Nat} {r : Int32} {xr : MS} (C : mC w A p s m args meth c cX3_putsPhones 2 (some .int)) : ∀ (n : Nat) (x : MS) (l1 : Int32) (H : Heap) (locs : List Loc) (ls : Array Slot), mI w A x s.heap H locs → lv_has ls 2 [(0, .ref (w.2.2.1 28)), (1, .int l1)] → fM_putsPhones_b13 N n x l1 = some (r, xr) → W p l e rmM_putsPhones s m args below meth c H locs 0 0 (MQ below (mQ w A (some (.int r)) xr) args s 0 0 A) (F0 m 13 ls []) := by
  have hx := C.1.1
  have hb := C.1.2.1
  have hown := C.1.2.2.2.1
  have hts := C.1.2.2.2.2.1
  have hE := C.2.2
  intro n
  induction n with
  | zero => intro x l1 H locs ls hI hl hf; rw [fM_putsPhones_b13] at hf; cases hf
  | succ n ih =>
  intro x l1 H locs ls hI hl hf
  rw [fM_putsPhones_b13] at hf
  refine lv_iload_n hx hb dX3_putsPhones_13 rfl (lv_at hl 1 rfl) ?_
  refine lv_bipush (v := 12) hx hb dX3_putsPhones_14 (by decide) ?_
  refine b_icge (tgt := 53) hx hb hf dX3_putsPhones_16 (by decide) (fun hf => ?_) (fun hf => ?_)
  · refine lv_iconst (v := 0) hx hb dX3_putsPhones_53 (by decide) ?_
    refine lv_istore_n (lv' := [(1, .int 0), (0, .ref (w.2.2.1 28))]) hx hb dX3_putsPhones_54 rfl hl (by decide) rfl (fun ls hl => ?_)
    exact w_fM_putsPhones_b55 C N x 0 _ _ _ hI (lv_sub hl [1, 0] rfl) hf
  · refine lv_aload_n hx hb dX3_putsPhones_19 rfl (lv_at hl 0 rfl) ?_
    refine mg0 C hI dX3_putsPhones_20 ?_
    refine lv_bipush (v := 105) hx hb dX3_putsPhones_23 (by decide) ?_
    refine lv_iconst (v := 2) hx hb dX3_putsPhones_25 (by decide) ?_
    refine lv_iload_n hx hb dX3_putsPhones_26 rfl (lv_at hl 1 rfl) ?_
    refine lv_imul hx hb dX3_putsPhones_27 ?_
    refine lv_iadd hx hb dX3_putsPhones_28 ?_
    refine lv_iconst (v := 0) hx hb dX3_putsPhones_29 (by decide) ?_
    refine ms0 C hI hf dX3_putsPhones_30 (fun x1 H locs hI hf => ?_)
    refine lv_aload_n hx hb dX3_putsPhones_31 rfl (lv_at hl 0 rfl) ?_
    refine mg0 C hI dX3_putsPhones_32 ?_
    refine lv_bipush (v := 105) hx hb dX3_putsPhones_35 (by decide) ?_
    refine lv_iconst (v := 2) hx hb dX3_putsPhones_37 (by decide) ?_
    refine lv_iload_n hx hb dX3_putsPhones_38 rfl (lv_at hl 1 rfl) ?_
    refine lv_imul hx hb dX3_putsPhones_39 ?_
    refine lv_iadd hx hb dX3_putsPhones_40 ?_
    refine lv_iconst (v := 1) hx hb dX3_putsPhones_41 (by decide) ?_
    refine lv_iadd hx hb dX3_putsPhones_42 ?_
    refine lv_sipush (v := 240) hx hb dX3_putsPhones_43 (by decide) ?_
    refine ms0 C hI hf dX3_putsPhones_46 (fun x2 H locs hI hf => ?_)
    refine lv_iinc (v := l1 + 1) (lv' := [(1, .int (l1 + 1)), (0, .ref (w.2.2.1 28))]) hx hb dX3_putsPhones_47 hl (k := 1) rfl rfl (by decide) rfl (fun ls hl => ?_)
    refine lv_goto (tgt := 13) hx hb dX3_putsPhones_50 (by decide) ?_
    exact ih x2 (l1 + 1) _ _ _ hI (lv_sub hl [1, 0] rfl) hf
def fM_putsPhones (N : Nat) (x : MS) : Option (Int32 × MS) :=
  (wr x 0 1725 91 (gS x 15)).bind fun x1 =>
  fM_putsPhones_b13 N N x1 0
theorem mm_putsPhones (l : Launch) (N : Nat) {w : mO} {A : Nat → Prop} : ∀ (x : MS) (r : Int32) (xr : MS), fM_putsPhones N x  = some (r, xr) → mMet l yX3_putsPhones (ws_ yX3_putsPhones cX3_putsPhones 2 (some .int)) rmM_putsPhones [.ref (w.2.2.1 28)] w A x (some (.int r)) xr := by
  intro x  r xr hf
  refine m_start (cc := cX3_putsPhones) (by decide +kernel) rfl (Nat.le_of_ble_eq_true rfl) rfl ?_
  intro p e s m args below meth c ls H locs C hI hl
  have hx := C.1.1
  have hb := C.1.2.1
  have hown := C.1.2.2.2.1
  have hts := C.1.2.2.2.2.1
  have hE := C.2.2
  rw [fM_putsPhones] at hf
  refine lv_aload_n hx hb dX3_putsPhones_0 rfl (lv_at hl 0 rfl) ?_
  refine mg0 C hI dX3_putsPhones_1 ?_
  refine lv_bipush (v := 91) hx hb dX3_putsPhones_4 (by decide) ?_
  refine lv_aload_n hx hb dX3_putsPhones_6 rfl (lv_at hl 0 rfl) ?_
  refine mg15 C hI dX3_putsPhones_7 ?_
  refine ms0 C hI hf dX3_putsPhones_10 (fun x1 H locs hI hf => ?_)
  refine lv_iconst (v := 0) hx hb dX3_putsPhones_11 (by decide) ?_
  refine lv_istore_n (lv' := [(1, .int 0), (0, .ref (w.2.2.1 28))]) hx hb dX3_putsPhones_12 rfl hl (by decide) rfl (fun ls hl => ?_)
  exact w_fM_putsPhones_b13 C N x1 0 _ _ _ hI (lv_sub hl [1, 0] rfl) hf
/-! putsText(I)I -/
abbrev rmM_putsText : Room := { frames := 1, cells := 0, slots := 0, locals := 24 }
def fM_putsText (N : Nat) (x : MS) (l1 : Int32) : Option (Int32 × MS) :=
  if l1 = 0 then
    b2 (fM_putsLaw N x) fun v3 x2 =>
    some (v3, x2)
  else if l1 = 1 then
    (fM_forgets N x).bind fun x5 =>
    b2 (fM_puts N x5 90 129 5) fun v7 x6 =>
    some (v7, x6)
  else if l1 = 2 then
    b2 (fM_putsPhones N x) fun v10 x9 =>
    some (v10, x9)
  else 
    b2 (fM_puts N x 92 209 2) fun v12 x11 =>
  some (v12, x11)
theorem mm_putsText (l : Launch) (N : Nat) {w : mO} {A : Nat → Prop} : ∀ (x : MS) (l1 : Int32) (r : Int32) (xr : MS), fM_putsText N x l1 = some (r, xr) → mMet l yX3_putsText (ws_ yX3_putsText cX3_putsText 2 (some .int)) rmM_putsText [.ref (w.2.2.1 28), .int l1] w A x (some (.int r)) xr := by
  intro x l1 r xr hf
  refine m_start (cc := cX3_putsText) (by decide +kernel) rfl (Nat.le_of_ble_eq_true rfl) rfl ?_
  intro p e s m args below meth c ls H locs C hI hl
  have hx := C.1.1
  have hb := C.1.2.1
  have hown := C.1.2.2.2.1
  have hts := C.1.2.2.2.2.1
  have hE := C.2.2
  rw [fM_putsText] at hf
  refine lv_iload_n hx hb dX3_putsText_0 rfl (lv_at hl 1 rfl) ?_
  refine b_tIn (k := 0) (j := 0) (tgt := 28) hx hb hf dX3_putsText_1 (by decide +kernel) rfl (by decide) (fun hf => ?_) (fun h1 hf => ?_)
  · refine lv_aload_n hx hb dX3_putsText_28 rfl (lv_at hl 0 rfl) ?_
    refine m_calli (rest := []) C hI hf (mm_putsLaw l N _) rfl cqM_putsLaw ⟨rfl, rfl⟩ ⟨Nat.le_of_ble_eq_true rfl, Nat.le_of_ble_eq_true rfl⟩ rfl hl.1 rfl (Nat.le_of_ble_eq_true rfl) dX3_putsText_29 (fun v3 x2 H locs hI hf => ?_)
    exact m_iret C hI hf dX3_putsText_32
  refine b_tIn (k := 1) (j := 1) (tgt := 33) hx hb hf dX3_putsText_1 (by decide +kernel) rfl (by decide) (fun hf => ?_) (fun h4 hf => ?_)
  · refine lv_aload_n hx hb dX3_putsText_33 rfl (lv_at hl 0 rfl) ?_
    refine m_callv (rest := []) C hI hf (mm_forgets l N _) rfl cqM_forgets ⟨rfl, rfl⟩ ⟨Nat.le_of_ble_eq_true rfl, Nat.le_of_ble_eq_true rfl⟩ rfl hl.1 rfl (Nat.le_of_ble_eq_true rfl) dX3_putsText_34 (fun x5 H locs hI hf => ?_)
    refine lv_aload_n hx hb dX3_putsText_37 rfl (lv_at hl 0 rfl) ?_
    refine lv_bipush (v := 90) hx hb dX3_putsText_38 (by decide) ?_
    refine lv_sipush (v := 129) hx hb dX3_putsText_40 (by decide) ?_
    refine lv_iconst (v := 5) hx hb dX3_putsText_43 (by decide) ?_
    refine m_calli (rest := []) C hI hf (mm_puts l N _ _ _ _) rfl cqM_puts ⟨rfl, rfl⟩ ⟨Nat.le_of_ble_eq_true rfl, Nat.le_of_ble_eq_true rfl⟩ rfl hl.1 rfl (Nat.le_of_ble_eq_true rfl) dX3_putsText_44 (fun v7 x6 H locs hI hf => ?_)
    exact m_iret C hI hf dX3_putsText_47
  refine b_tIn (k := 2) (j := 2) (tgt := 48) hx hb hf dX3_putsText_1 (by decide +kernel) rfl (by decide) (fun hf => ?_) (fun h8 hf => ?_)
  · refine lv_aload_n hx hb dX3_putsText_48 rfl (lv_at hl 0 rfl) ?_
    refine m_calli (rest := []) C hI hf (mm_putsPhones l N _) rfl cqM_putsPhones ⟨rfl, rfl⟩ ⟨Nat.le_of_ble_eq_true rfl, Nat.le_of_ble_eq_true rfl⟩ rfl hl.1 rfl (Nat.le_of_ble_eq_true rfl) dX3_putsText_49 (fun v10 x9 H locs hI hf => ?_)
    exact m_iret C hI hf dX3_putsText_52
  have h1 : l1.toInt ≠ 0 := sw_ne h1
  have h4 : l1.toInt ≠ 1 := sw_ne h4
  have h8 : l1.toInt ≠ 2 := sw_ne h8
  refine lv_tableOut (tgt := 53) hx hb dX3_putsText_1 (by omega) (by decide) ?_
  refine lv_aload_n hx hb dX3_putsText_53 rfl (lv_at hl 0 rfl) ?_
  refine lv_bipush (v := 92) hx hb dX3_putsText_54 (by decide) ?_
  refine lv_sipush (v := 209) hx hb dX3_putsText_56 (by decide) ?_
  refine lv_iconst (v := 2) hx hb dX3_putsText_59 (by decide) ?_
  refine m_calli (rest := []) C hI hf (mm_puts l N _ _ _ _) rfl cqM_puts ⟨rfl, rfl⟩ ⟨Nat.le_of_ble_eq_true rfl, Nat.le_of_ble_eq_true rfl⟩ rfl hl.1 rfl (Nat.le_of_ble_eq_true rfl) dX3_putsText_60 (fun v12 x11 H locs hI hf => ?_)
  exact m_iret C hI hf dX3_putsText_63
/-! lay(II)V -/
abbrev rmM_lay : Room := { frames := 0, cells := 0, slots := 0, locals := 0 }
def fM_lay (N : Nat) (x : MS) (l1 : Int32) (l2 : Int32) : Option MS :=
  (wr x 7 820 (2 * (gS x 14)) l1).bind fun x1 =>
  (wr x1 7 820 ((2 * (gS x1 14)) + 1) l2).bind fun x2 =>
  some (sS x2 14 ((gS x2 14) + 1))
theorem mm_lay (l : Launch) (N : Nat) {w : mO} {A : Nat → Prop} : ∀ (x : MS) (l1 : Int32) (l2 : Int32) (xr : MS), fM_lay N x l1 l2 = some xr → mMet l yX3_lay (ws_ yX3_lay cX3_lay 3 none) rmM_lay [.ref (w.2.2.1 28), .int l1, .int l2] w A x none xr := by
  intro x l1 l2 xr hf
  refine m_start (cc := cX3_lay) (by decide +kernel) rfl (Nat.le_of_ble_eq_true rfl) rfl ?_
  intro p e s m args below meth c ls H locs C hI hl
  have hx := C.1.1
  have hb := C.1.2.1
  have hown := C.1.2.2.2.1
  have hts := C.1.2.2.2.2.1
  have hE := C.2.2
  rw [fM_lay] at hf
  refine lv_aload_n hx hb dX3_lay_0 rfl (lv_at hl 0 rfl) ?_
  refine mg7 C hI dX3_lay_1 ?_
  refine lv_iconst (v := 2) hx hb dX3_lay_4 (by decide) ?_
  refine lv_aload_n hx hb dX3_lay_5 rfl (lv_at hl 0 rfl) ?_
  refine mg14 C hI dX3_lay_6 ?_
  refine lv_imul hx hb dX3_lay_9 ?_
  refine lv_iload_n hx hb dX3_lay_10 rfl (lv_at hl 1 rfl) ?_
  refine ms7 C hI hf dX3_lay_11 (fun x1 H locs hI hf => ?_)
  refine lv_aload_n hx hb dX3_lay_12 rfl (lv_at hl 0 rfl) ?_
  refine mg7 C hI dX3_lay_13 ?_
  refine lv_iconst (v := 2) hx hb dX3_lay_16 (by decide) ?_
  refine lv_aload_n hx hb dX3_lay_17 rfl (lv_at hl 0 rfl) ?_
  refine mg14 C hI dX3_lay_18 ?_
  refine lv_imul hx hb dX3_lay_21 ?_
  refine lv_iconst (v := 1) hx hb dX3_lay_22 (by decide) ?_
  refine lv_iadd hx hb dX3_lay_23 ?_
  refine lv_iload_n hx hb dX3_lay_24 rfl (lv_at hl 2 rfl) ?_
  refine ms7 C hI hf dX3_lay_25 (fun x2 H locs hI hf => ?_)
  refine lv_aload_n hx hb dX3_lay_26 rfl (lv_at hl 0 rfl) ?_
  refine lv_dup hx hb dX3_lay_27 rfl ?_
  refine mg14 C hI dX3_lay_28 ?_
  refine lv_iconst (v := 1) hx hb dX3_lay_31 (by decide) ?_
  refine lv_iadd hx hb dX3_lay_32 ?_
  refine mp14 C hI dX3_lay_33 (fun H locs hI => ?_)
  exact m_vret C hI hf dX3_lay_36
/-! bad(I)Z -/
abbrev rmM_bad : Room := { frames := 0, cells := 0, slots := 0, locals := 0 }
def fM_bad (N : Nat) (x : MS) (l1 : Int32) : Option (Int32 × MS) :=
  some (0, sS (sS x 21 l1) 22 (gS (sS x 21 l1) 19))
theorem mm_bad (l : Launch) (N : Nat) {w : mO} {A : Nat → Prop} : ∀ (x : MS) (l1 : Int32) (r : Int32) (xr : MS), fM_bad N x l1 = some (r, xr) → mMet l yX3_bad (ws_ yX3_bad cX3_bad 2 (some .boolean)) rmM_bad [.ref (w.2.2.1 28), .int l1] w A x (some (.int r)) xr := by
  intro x l1 r xr hf
  refine m_start (cc := cX3_bad) (by decide +kernel) rfl (Nat.le_of_ble_eq_true rfl) rfl ?_
  intro p e s m args below meth c ls H locs C hI hl
  have hx := C.1.1
  have hb := C.1.2.1
  have hown := C.1.2.2.2.1
  have hts := C.1.2.2.2.2.1
  have hE := C.2.2
  rw [fM_bad] at hf
  refine lv_aload_n hx hb dX3_bad_0 rfl (lv_at hl 0 rfl) ?_
  refine lv_iload_n hx hb dX3_bad_1 rfl (lv_at hl 1 rfl) ?_
  refine mp21 C hI dX3_bad_2 (fun H locs hI => ?_)
  refine lv_aload_n hx hb dX3_bad_5 rfl (lv_at hl 0 rfl) ?_
  refine lv_aload_n hx hb dX3_bad_6 rfl (lv_at hl 0 rfl) ?_
  refine mg19 C hI dX3_bad_7 ?_
  refine mp22 C hI dX3_bad_10 (fun H locs hI => ?_)
  refine lv_iconst (v := 0) hx hb dX3_bad_13 (by decide) ?_
  exact m_zretc C hI zb_0 hf dX3_bad_14
/-! need(I)Z -/
abbrev rmM_need : Room := { frames := 9, cells := 0, slots := 0, locals := 190 }
def fM_need (N : Nat) (x : MS) (l1 : Int32) : Option (Int32 × MS) :=
  if (gS x 18) = l1 then
    (fM_next0 N x).bind fun x1 =>
    some (1, x1)
  else
    b2 (fM_bad N x 1) fun v3 x2 =>
    some (zb v3, x2)
theorem mm_need (l : Launch) (N : Nat) {w : mO} {A : Nat → Prop} : ∀ (x : MS) (l1 : Int32) (r : Int32) (xr : MS), fM_need N x l1 = some (r, xr) → mMet l yX3_need (ws_ yX3_need cX3_need 2 (some .boolean)) rmM_need [.ref (w.2.2.1 28), .int l1] w A x (some (.int r)) xr := by
  intro x l1 r xr hf
  refine m_start (cc := cX3_need) (by decide +kernel) rfl (Nat.le_of_ble_eq_true rfl) rfl ?_
  intro p e s m args below meth c ls H locs C hI hl
  have hx := C.1.1
  have hb := C.1.2.1
  have hown := C.1.2.2.2.1
  have hts := C.1.2.2.2.2.1
  have hE := C.2.2
  rw [fM_need] at hf
  refine lv_aload_n hx hb dX3_need_0 rfl (lv_at hl 0 rfl) ?_
  refine mg18 C hI dX3_need_1 ?_
  refine lv_iload_n hx hb dX3_need_4 rfl (lv_at hl 1 rfl) ?_
  refine b_iceq (tgt := 14) hx hb hf dX3_need_5 (by decide) (fun hf => ?_) (fun hf => ?_)
  · refine lv_aload_n hx hb dX3_need_14 rfl (lv_at hl 0 rfl) ?_
    refine m_callv (rest := []) C hI hf (mm_next0 l N _) rfl cqM_next0 ⟨rfl, rfl⟩ ⟨Nat.le_of_ble_eq_true rfl, Nat.le_of_ble_eq_true rfl⟩ rfl hl.1 rfl (Nat.le_of_ble_eq_true rfl) dX3_need_15 (fun x1 H locs hI hf => ?_)
    refine lv_iconst (v := 1) hx hb dX3_need_18 (by decide) ?_
    exact m_zretc C hI zb_1 hf dX3_need_19
  · refine lv_aload_n hx hb dX3_need_8 rfl (lv_at hl 0 rfl) ?_
    refine lv_iconst (v := 1) hx hb dX3_need_9 (by decide) ?_
    refine m_calli (rest := []) C hI hf (mm_bad l N _ _) rfl cqM_bad ⟨rfl, rfl⟩ ⟨Nat.le_of_ble_eq_true rfl, Nat.le_of_ble_eq_true rfl⟩ rfl hl.1 rfl (Nat.le_of_ble_eq_true rfl) dX3_need_10 (fun v3 x2 H locs hI hf => ?_)
    exact m_zret C hI hf dX3_need_13
/-! opens()Z -/
abbrev rmM_opens : Room := { frames := 9, cells := 0, slots := 0, locals := 190 }
def fM_opens (N : Nat) (x : MS) : Option (Int32 × MS) :=
  if (gS x 24) = 8 then
    b2 (fM_bad N x 3) fun v3 x2 =>
    some (zb v3, x2)
  else
    (fM_next0 N (sS x 24 ((gS x 24) + 1))).bind fun x1 =>
    some (1, x1)
theorem mm_opens (l : Launch) (N : Nat) {w : mO} {A : Nat → Prop} : ∀ (x : MS) (r : Int32) (xr : MS), fM_opens N x  = some (r, xr) → mMet l yX3_opens (ws_ yX3_opens cX3_opens 1 (some .boolean)) rmM_opens [.ref (w.2.2.1 28)] w A x (some (.int r)) xr := by
  intro x  r xr hf
  refine m_start (cc := cX3_opens) (by decide +kernel) rfl (Nat.le_of_ble_eq_true rfl) rfl ?_
  intro p e s m args below meth c ls H locs C hI hl
  have hx := C.1.1
  have hb := C.1.2.1
  have hown := C.1.2.2.2.1
  have hts := C.1.2.2.2.2.1
  have hE := C.2.2
  rw [fM_opens] at hf
  refine lv_aload_n hx hb dX3_opens_0 rfl (lv_at hl 0 rfl) ?_
  refine mg24 C hI dX3_opens_1 ?_
  refine lv_bipush (v := 8) hx hb dX3_opens_4 (by decide) ?_
  refine b_icne (tgt := 15) hx hb hf dX3_opens_6 (by decide) (fun hf => ?_) (fun hf => ?_)
  · refine lv_aload_n hx hb dX3_opens_15 rfl (lv_at hl 0 rfl) ?_
    refine lv_dup hx hb dX3_opens_16 rfl ?_
    refine mg24 C hI dX3_opens_17 ?_
    refine lv_iconst (v := 1) hx hb dX3_opens_20 (by decide) ?_
    refine lv_iadd hx hb dX3_opens_21 ?_
    refine mp24 C hI dX3_opens_22 (fun H locs hI => ?_)
    refine lv_aload_n hx hb dX3_opens_25 rfl (lv_at hl 0 rfl) ?_
    refine m_callv (rest := []) C hI hf (mm_next0 l N _) rfl cqM_next0 ⟨rfl, rfl⟩ ⟨Nat.le_of_ble_eq_true rfl, Nat.le_of_ble_eq_true rfl⟩ rfl hl.1 rfl (Nat.le_of_ble_eq_true rfl) dX3_opens_26 (fun x1 H locs hI hf => ?_)
    refine lv_iconst (v := 1) hx hb dX3_opens_29 (by decide) ?_
    exact m_zretc C hI zb_1 hf dX3_opens_30
  · refine lv_aload_n hx hb dX3_opens_9 rfl (lv_at hl 0 rfl) ?_
    refine lv_iconst (v := 3) hx hb dX3_opens_10 (by decide) ?_
    refine m_calli (rest := []) C hI hf (mm_bad l N _ _) rfl cqM_bad ⟨rfl, rfl⟩ ⟨Nat.le_of_ble_eq_true rfl, Nat.le_of_ble_eq_true rfl⟩ rfl hl.1 rfl (Nat.le_of_ble_eq_true rfl) dX3_opens_11 (fun v3 x2 H locs hI hf => ?_)
    exact m_zret C hI hf dX3_opens_14
/-! unit()Z -/
abbrev rmM_unit : Room := { frames := 9, cells := 0, slots := 0, locals := 190 }
def fM_unit_b46 (N : Nat) (x : MS) (s1 : Int32) : Option (Int32 × MS) :=
  (fM_lay N x s1 (gS x 20)).bind fun x1 =>
  (fM_next0 N x1).bind fun x2 =>
  some (1, x2)
theorem w_fM_unit_b46 {N : Nat} {r : Int32} {xr : MS} (C : mC w A p s m args meth c cX3_unit 2 (some .boolean)) : ∀ (x : MS) (s1 : Int32) (H : Heap) (locs : List Loc) (ls : Array Slot), mI w A x s.heap H locs → lv_has ls 2 [(0, .ref (w.2.2.1 28))] → fM_unit_b46 N x s1 = some (r, xr) → W p l e rmM_unit s m args below meth c H locs 0 0 (MQ below (mQ w A (some (.int r)) xr) args s 0 0 A) (F0 m 46 ls [.int s1, .ref (w.2.2.1 28)]) := by
  have hx := C.1.1
  have hb := C.1.2.1
  have hown := C.1.2.2.2.1
  have hts := C.1.2.2.2.2.1
  have hE := C.2.2
  intro x s1 H locs ls hI hl hf
  rw [fM_unit_b46] at hf
  refine lv_aload_n hx hb dX3_unit_46 rfl (lv_at hl 0 rfl) ?_
  refine mg20 C hI dX3_unit_47 ?_
  refine m_callv (rest := []) C hI hf (mm_lay l N _ _ _) rfl cqM_lay ⟨rfl, rfl⟩ ⟨Nat.le_of_ble_eq_true rfl, Nat.le_of_ble_eq_true rfl⟩ rfl hl.1 rfl (Nat.le_of_ble_eq_true rfl) dX3_unit_50 (fun x1 H locs hI hf => ?_)
  refine lv_aload_n hx hb dX3_unit_53 rfl (lv_at hl 0 rfl) ?_
  refine m_callv (rest := []) C hI hf (mm_next0 l N _) rfl cqM_next0 ⟨rfl, rfl⟩ ⟨Nat.le_of_ble_eq_true rfl, Nat.le_of_ble_eq_true rfl⟩ rfl hl.1 rfl (Nat.le_of_ble_eq_true rfl) dX3_unit_54 (fun x2 H locs hI hf => ?_)
  refine lv_iconst (v := 1) hx hb dX3_unit_57 (by decide) ?_
  exact m_zretc C hI zb_1 hf dX3_unit_58
def fM_unit_b30 (N : Nat) (x : MS) (l1 : Int32) : Option (Int32 × MS) :=
  if l1 = 0 then
    fM_unit_b46 N x 0
  else
    fM_unit_b46 N x ((gS x 18) - 40)
theorem w_fM_unit_b30 {N : Nat} {r : Int32} {xr : MS} (C : mC w A p s m args meth c cX3_unit 2 (some .boolean)) : ∀ (x : MS) (l1 : Int32) (H : Heap) (locs : List Loc) (ls : Array Slot), mI w A x s.heap H locs → lv_has ls 2 [(0, .ref (w.2.2.1 28)), (1, .int l1)] → fM_unit_b30 N x l1 = some (r, xr) → W p l e rmM_unit s m args below meth c H locs 0 0 (MQ below (mQ w A (some (.int r)) xr) args s 0 0 A) (F0 m 30 ls []) := by
  have hx := C.1.1
  have hb := C.1.2.1
  have hown := C.1.2.2.2.1
  have hts := C.1.2.2.2.2.1
  have hE := C.2.2
  intro x l1 H locs ls hI hl hf
  rw [fM_unit_b30] at hf
  refine lv_aload_n hx hb dX3_unit_30 rfl (lv_at hl 0 rfl) ?_
  refine lv_iload_n hx hb dX3_unit_31 rfl (lv_at hl 1 rfl) ?_
  refine b_ifeq (tgt := 45) hx hb hf dX3_unit_32 (by decide) (fun hf => ?_) (fun hf => ?_)
  · refine lv_iconst (v := 0) hx hb dX3_unit_45 (by decide) ?_
    exact w_fM_unit_b46 C x 0 _ _ _ hI (lv_sub hl [0] rfl) hf
  · refine lv_aload_n hx hb dX3_unit_35 rfl (lv_at hl 0 rfl) ?_
    refine mg18 C hI dX3_unit_36 ?_
    refine lv_bipush (v := 40) hx hb dX3_unit_39 (by decide) ?_
    refine lv_isub hx hb dX3_unit_41 ?_
    refine lv_goto (tgt := 46) hx hb dX3_unit_42 (by decide) ?_
    exact w_fM_unit_b46 C x ((gS x 18) - 40) _ _ _ hI (lv_sub hl [0] rfl) hf
def fM_unit (N : Nat) (x : MS) : Option (Int32 × MS) :=
  (fM_isIn N (gS x 18) 41 49).bind fun v1 =>
  if (gS x 18) = 2 then
    fM_unit_b30 N x v1
  else
    if v1 = 0 then
      b2 (fM_bad N x 1) fun v3 x2 =>
      some (zb v3, x2)
    else
      fM_unit_b30 N x v1
theorem mm_unit (l : Launch) (N : Nat) {w : mO} {A : Nat → Prop} : ∀ (x : MS) (r : Int32) (xr : MS), fM_unit N x  = some (r, xr) → mMet l yX3_unit (ws_ yX3_unit cX3_unit 2 (some .boolean)) rmM_unit [.ref (w.2.2.1 28)] w A x (some (.int r)) xr := by
  intro x  r xr hf
  refine m_start (cc := cX3_unit) (by decide +kernel) rfl (Nat.le_of_ble_eq_true rfl) rfl ?_
  intro p e s m args below meth c ls H locs C hI hl
  have hx := C.1.1
  have hb := C.1.2.1
  have hown := C.1.2.2.2.1
  have hts := C.1.2.2.2.2.1
  have hE := C.2.2
  rw [fM_unit] at hf
  refine lv_aload_n hx hb dX3_unit_0 rfl (lv_at hl 0 rfl) ?_
  refine mg18 C hI dX3_unit_1 ?_
  refine lv_bipush (v := 41) hx hb dX3_unit_4 (by decide) ?_
  refine lv_bipush (v := 49) hx hb dX3_unit_6 (by decide) ?_
  refine g_calliS (rest := []) C.1 hf (smM_isIn l N _ _ _) cqM_M_isIn ⟨rfl, rfl⟩ ⟨Nat.le_of_ble_eq_true rfl, Nat.le_of_ble_eq_true rfl⟩ rfl hl.1 rfl (Nat.le_of_ble_eq_true rfl) ⟨Nat.zero_le _, Nat.zero_le _⟩ dX3_unit_8 (fun v1 hf => ?_)
  refine lv_istore_n (lv' := [(1, .int v1), (0, .ref (w.2.2.1 28))]) hx hb dX3_unit_11 rfl hl (by decide) rfl (fun ls hl => ?_)
  refine lv_aload_n hx hb dX3_unit_12 rfl (lv_at hl 1 rfl) ?_
  refine mg18 C hI dX3_unit_13 ?_
  refine lv_iconst (v := 2) hx hb dX3_unit_16 (by decide) ?_
  refine b_iceq (tgt := 30) hx hb hf dX3_unit_17 (by decide) (fun hf => ?_) (fun hf => ?_)
  · exact w_fM_unit_b30 C x v1 _ _ _ hI (lv_sub hl [1, 0] rfl) hf
  · refine lv_iload_n hx hb dX3_unit_20 rfl (lv_at hl 0 rfl) ?_
    refine b_ifne (tgt := 30) hx hb hf dX3_unit_21 (by decide) (fun hf => ?_) (fun hf => ?_)
    · exact w_fM_unit_b30 C x v1 _ _ _ hI (lv_sub hl [1, 0] rfl) hf
    · refine lv_aload_n hx hb dX3_unit_24 rfl (lv_at hl 1 rfl) ?_
      refine lv_iconst (v := 1) hx hb dX3_unit_25 (by decide) ?_
      refine m_calli (rest := []) C hI hf (mm_bad l N _ _) rfl cqM_bad ⟨rfl, rfl⟩ ⟨Nat.le_of_ble_eq_true rfl, Nat.le_of_ble_eq_true rfl⟩ rfl hl.1 rfl (Nat.le_of_ble_eq_true rfl) dX3_unit_26 (fun v3 x2 H locs hI hf => ?_)
      exact m_zret C hI hf dX3_unit_29
/-! product()Z -/
abbrev rmM_product : Room := { frames := 10, cells := 0, slots := 0, locals := 211 }
def fM_product_b29 (N : Nat) (k9 : MS → Option (Int32 × MS)) (x : MS) : Option (Int32 × MS) :=
  lt (if (gS x 18) = 147 then 1 else 0 : Int32) fun v1 =>
  (fM_next0 N x).bind fun x2 =>
  if v1 = 0 then
    b2 (fM_unit N x2) fun v4 x3 =>
    if v4 = 0 then
      some (0, x3)
    else
      (fM_lay N x3 25 0).bind fun x5 =>
      k9 x5
  else
    if (gS x2 18) = 2 then
      if (gS x2 20) = 0 then
        b2 (fM_bad N x2 2) fun v9 x8 =>
        some (zb v9, x8)
      else
        (fM_next0 N x2).bind fun x6 =>
        (fM_lay N x6 26 (gS x2 20)).bind fun x7 =>
        k9 x7
    else
      b2 (fM_bad N x2 1) fun v11 x10 =>
      some (zb v11, x10)
theorem w_fM_product_b29 {N : Nat} {r : Int32} {xr : MS} {k9 : MS → Option (Int32 × MS)} (C : mC w A p s m args meth c cX3_product 3 (some .boolean)) (hk9 : ∀ (x : MS) (H : Heap) (locs : List Loc) (ls : Array Slot), mI w A x s.heap H locs → lv_has ls 3 [(0, .ref (w.2.2.1 28))] → k9 x  = some (r, xr) → W p l e rmM_product s m args below meth c H locs 0 0 (MQ below (mQ w A (some (.int r)) xr) args s 0 0 A) (F0 m 9 ls [])) : ∀ (x : MS) (H : Heap) (locs : List Loc) (ls : Array Slot), mI w A x s.heap H locs → lv_has ls 3 [(0, .ref (w.2.2.1 28))] → fM_product_b29 N k9 x  = some (r, xr) → W p l e rmM_product s m args below meth c H locs 0 0 (MQ below (mQ w A (some (.int r)) xr) args s 0 0 A) (F0 m 29 ls []) := by
  have hx := C.1.1
  have hb := C.1.2.1
  have hown := C.1.2.2.2.1
  have hts := C.1.2.2.2.2.1
  have hE := C.2.2
  intro x  H locs ls hI hl hf
  rw [fM_product_b29] at hf
  refine lv_aload_n hx hb dX3_product_29 rfl (lv_at hl 0 rfl) ?_
  refine mg18 C hI dX3_product_30 ?_
  refine lv_sipush (v := 147) hx hb dX3_product_33 (by decide) ?_
  suffices hJ : ∀ v1 : Int32, (v1 = (if (gS x 18) = 147 then 1 else 0 : Int32)) → W p l e rmM_product s m args below meth c H locs 0 0 (MQ below (mQ w A (some (.int r)) xr) args s 0 0 A) (F0 m 44 ls [.int v1]) by
    refine lv_icmp_ne (tgt := 43) hx hb dX3_product_36 (by decide) (fun hc => ?_) (fun hc => ?_)
    · refine lv_iconst (v := 0) hx hb dX3_product_43 (by decide) ?_
      exact hJ _ (if_neg hc).symm
    · refine lv_iconst (v := 1) hx hb dX3_product_39 (by decide) ?_
      refine lv_goto (tgt := 44) hx hb dX3_product_40 (by decide) ?_
      exact hJ _ (if_pos hc).symm
  intro v1 hv
  have hf := lt_of hv hf
  refine lv_istore_n (lv' := [(1, .int v1), (0, .ref (w.2.2.1 28))]) hx hb dX3_product_44 rfl hl (by decide) rfl (fun ls hl => ?_)
  refine lv_aload_n hx hb dX3_product_45 rfl (lv_at hl 1 rfl) ?_
  refine m_callv (rest := []) C hI hf (mm_next0 l N _) rfl cqM_next0 ⟨rfl, rfl⟩ ⟨Nat.le_of_ble_eq_true rfl, Nat.le_of_ble_eq_true rfl⟩ rfl hl.1 rfl (Nat.le_of_ble_eq_true rfl) dX3_product_46 (fun x2 H locs hI hf => ?_)
  refine lv_iload_n hx hb dX3_product_49 rfl (lv_at hl 0 rfl) ?_
  refine b_ifeq (tgt := 96) hx hb hf dX3_product_50 (by decide) (fun hf => ?_) (fun hf => ?_)
  · refine lv_aload_n hx hb dX3_product_96 rfl (lv_at hl 1 rfl) ?_
    refine m_calli (rest := []) C hI hf (mm_unit l N _) rfl cqM_unit ⟨rfl, rfl⟩ ⟨Nat.le_of_ble_eq_true rfl, Nat.le_of_ble_eq_true rfl⟩ rfl hl.1 rfl (Nat.le_of_ble_eq_true rfl) dX3_product_97 (fun v4 x3 H locs hI hf => ?_)
    refine b_ifne (tgt := 105) hx hb hf dX3_product_100 (by decide) (fun hf => ?_) (fun hf => ?_)
    · refine lv_aload_n hx hb dX3_product_105 rfl (lv_at hl 1 rfl) ?_
      refine lv_bipush (v := 25) hx hb dX3_product_106 (by decide) ?_
      refine lv_iconst (v := 0) hx hb dX3_product_108 (by decide) ?_
      refine m_callv (rest := []) C hI hf (mm_lay l N _ _ _) rfl cqM_lay ⟨rfl, rfl⟩ ⟨Nat.le_of_ble_eq_true rfl, Nat.le_of_ble_eq_true rfl⟩ rfl hl.1 rfl (Nat.le_of_ble_eq_true rfl) dX3_product_109 (fun x5 H locs hI hf => ?_)
      refine lv_goto (tgt := 9) hx hb dX3_product_112 (by decide) ?_
      exact hk9 x5 _ _ _ hI (lv_sub hl [1] rfl) hf
    · refine lv_iconst (v := 0) hx hb dX3_product_103 (by decide) ?_
      exact m_zretc C hI zb_0 hf dX3_product_104
  · refine lv_aload_n hx hb dX3_product_53 rfl (lv_at hl 1 rfl) ?_
    refine mg20 C hI dX3_product_54 ?_
    refine lv_istore_n (lv' := [(2, .int (gS x2 20)), (1, .int v1), (0, .ref (w.2.2.1 28))]) hx hb dX3_product_57 rfl hl (by decide) rfl (fun ls hl => ?_)
    refine lv_aload_n hx hb dX3_product_58 rfl (lv_at hl 2 rfl) ?_
    refine mg18 C hI dX3_product_59 ?_
    refine lv_iconst (v := 2) hx hb dX3_product_62 (by decide) ?_
    refine b_iceq (tgt := 72) hx hb hf dX3_product_63 (by decide) (fun hf => ?_) (fun hf => ?_)
    · refine lv_iload_n hx hb dX3_product_72 rfl (lv_at hl 0 rfl) ?_
      refine b_ifne (tgt := 82) hx hb hf dX3_product_73 (by decide) (fun hf => ?_) (fun hf => ?_)
      · refine lv_aload_n hx hb dX3_product_82 rfl (lv_at hl 2 rfl) ?_
        refine m_callv (rest := []) C hI hf (mm_next0 l N _) rfl cqM_next0 ⟨rfl, rfl⟩ ⟨Nat.le_of_ble_eq_true rfl, Nat.le_of_ble_eq_true rfl⟩ rfl hl.1 rfl (Nat.le_of_ble_eq_true rfl) dX3_product_83 (fun x6 H locs hI hf => ?_)
        refine lv_aload_n hx hb dX3_product_86 rfl (lv_at hl 2 rfl) ?_
        refine lv_bipush (v := 26) hx hb dX3_product_87 (by decide) ?_
        refine lv_iload_n hx hb dX3_product_89 rfl (lv_at hl 0 rfl) ?_
        refine m_callv (rest := []) C hI hf (mm_lay l N _ _ _) rfl cqM_lay ⟨rfl, rfl⟩ ⟨Nat.le_of_ble_eq_true rfl, Nat.le_of_ble_eq_true rfl⟩ rfl hl.1 rfl (Nat.le_of_ble_eq_true rfl) dX3_product_90 (fun x7 H locs hI hf => ?_)
        refine lv_goto (tgt := 112) hx hb dX3_product_93 (by decide) ?_
        refine lv_goto (tgt := 9) hx hb dX3_product_112 (by decide) ?_
        exact hk9 x7 _ _ _ hI (lv_sub hl [2] rfl) hf
      · refine lv_aload_n hx hb dX3_product_76 rfl (lv_at hl 2 rfl) ?_
        refine lv_iconst (v := 2) hx hb dX3_product_77 (by decide) ?_
        refine m_calli (rest := []) C hI hf (mm_bad l N _ _) rfl cqM_bad ⟨rfl, rfl⟩ ⟨Nat.le_of_ble_eq_true rfl, Nat.le_of_ble_eq_true rfl⟩ rfl hl.1 rfl (Nat.le_of_ble_eq_true rfl) dX3_product_78 (fun v9 x8 H locs hI hf => ?_)
        exact m_zret C hI hf dX3_product_81
    · refine lv_aload_n hx hb dX3_product_66 rfl (lv_at hl 2 rfl) ?_
      refine lv_iconst (v := 1) hx hb dX3_product_67 (by decide) ?_
      refine m_calli (rest := []) C hI hf (mm_bad l N _ _) rfl cqM_bad ⟨rfl, rfl⟩ ⟨Nat.le_of_ble_eq_true rfl, Nat.le_of_ble_eq_true rfl⟩ rfl hl.1 rfl (Nat.le_of_ble_eq_true rfl) dX3_product_68 (fun v11 x10 H locs hI hf => ?_)
      exact m_zret C hI hf dX3_product_71
def fM_product_b9 (N : Nat) : Nat → MS → Option (Int32 × MS)
  | 0, _ => none
  | n + 1, x =>
  if (gS x 18) = 142 then
    fM_product_b29 N (fM_product_b9 N n) x
  else
    if (gS x 18) = 147 then
      fM_product_b29 N (fM_product_b9 N n) x
    else
      some (1, x)
theorem w_fM_product_b9 {N : Nat} {r : Int32} {xr : MS} (C : mC w A p s m args meth c cX3_product 3 (some .boolean)) : ∀ (n : Nat) (x : MS) (H : Heap) (locs : List Loc) (ls : Array Slot), mI w A x s.heap H locs → lv_has ls 3 [(0, .ref (w.2.2.1 28))] → fM_product_b9 N n x  = some (r, xr) → W p l e rmM_product s m args below meth c H locs 0 0 (MQ below (mQ w A (some (.int r)) xr) args s 0 0 A) (F0 m 9 ls []) := by
  have hx := C.1.1
  have hb := C.1.2.1
  have hown := C.1.2.2.2.1
  have hts := C.1.2.2.2.2.1
  have hE := C.2.2
  intro n
  induction n with
  | zero => intro x  H locs ls hI hl hf; rw [fM_product_b9] at hf; cases hf
  | succ n ih =>
  intro x  H locs ls hI hl hf
  rw [fM_product_b9] at hf
  refine lv_aload_n hx hb dX3_product_9 rfl (lv_at hl 0 rfl) ?_
  refine mg18 C hI dX3_product_10 ?_
  refine lv_sipush (v := 142) hx hb dX3_product_13 (by decide) ?_
  refine b_iceq (tgt := 29) hx hb hf dX3_product_16 (by decide) (fun hf => ?_) (fun hf => ?_)
  · exact w_fM_product_b29 C ih x _ _ _ hI (lv_sub hl [0] rfl) hf
  · refine lv_aload_n hx hb dX3_product_19 rfl (lv_at hl 0 rfl) ?_
    refine mg18 C hI dX3_product_20 ?_
    refine lv_sipush (v := 147) hx hb dX3_product_23 (by decide) ?_
    refine b_icne (tgt := 115) hx hb hf dX3_product_26 (by decide) (fun hf => ?_) (fun hf => ?_)
    · refine lv_iconst (v := 1) hx hb dX3_product_115 (by decide) ?_
      exact m_zretc C hI zb_1 hf dX3_product_116
    · exact w_fM_product_b29 C ih x _ _ _ hI (lv_sub hl [0] rfl) hf
def fM_product (N : Nat) (x : MS) : Option (Int32 × MS) :=
  b2 (fM_unit N x) fun v2 x1 =>
  if v2 = 0 then
    some (0, x1)
  else
    fM_product_b9 N N x1
theorem mm_product (l : Launch) (N : Nat) {w : mO} {A : Nat → Prop} : ∀ (x : MS) (r : Int32) (xr : MS), fM_product N x  = some (r, xr) → mMet l yX3_product (ws_ yX3_product cX3_product 3 (some .boolean)) rmM_product [.ref (w.2.2.1 28)] w A x (some (.int r)) xr := by
  intro x  r xr hf
  refine m_start (cc := cX3_product) (by decide +kernel) rfl (Nat.le_of_ble_eq_true rfl) rfl ?_
  intro p e s m args below meth c ls H locs C hI hl
  have hx := C.1.1
  have hb := C.1.2.1
  have hown := C.1.2.2.2.1
  have hts := C.1.2.2.2.2.1
  have hE := C.2.2
  rw [fM_product] at hf
  refine lv_aload_n hx hb dX3_product_0 rfl (lv_at hl 0 rfl) ?_
  refine m_calli (rest := []) C hI hf (mm_unit l N _) rfl cqM_unit ⟨rfl, rfl⟩ ⟨Nat.le_of_ble_eq_true rfl, Nat.le_of_ble_eq_true rfl⟩ rfl hl.1 rfl (Nat.le_of_ble_eq_true rfl) dX3_product_1 (fun v2 x1 H locs hI hf => ?_)
  refine b_ifne (tgt := 9) hx hb hf dX3_product_4 (by decide) (fun hf => ?_) (fun hf => ?_)
  · exact w_fM_product_b9 C N x1 _ _ _ hI (lv_sub hl [0] rfl) hf
  · refine lv_iconst (v := 0) hx hb dX3_product_7 (by decide) ?_
    exact m_zretc C hI zb_0 hf dX3_product_8
/-! sumUp()Z -/
abbrev rmM_sumUp : Room := { frames := 11, cells := 0, slots := 0, locals := 233 }
def fM_sumUp_b29 (N : Nat) (k9 : MS → Option (Int32 × MS)) (x : MS) : Option (Int32 × MS) :=
  lt (if (gS x 18) = 143 then 23 else 24 : Int32) fun v1 =>
  (fM_next0 N x).bind fun x2 =>
  b2 (fM_product N x2) fun v4 x3 =>
  if v4 = 0 then
    some (0, x3)
  else
    (fM_lay N x3 v1 0).bind fun x5 =>
    k9 x5
theorem w_fM_sumUp_b29 {N : Nat} {r : Int32} {xr : MS} {k9 : MS → Option (Int32 × MS)} (C : mC w A p s m args meth c cX3_sumUp 2 (some .boolean)) (hk9 : ∀ (x : MS) (H : Heap) (locs : List Loc) (ls : Array Slot), mI w A x s.heap H locs → lv_has ls 2 [(0, .ref (w.2.2.1 28))] → k9 x  = some (r, xr) → W p l e rmM_sumUp s m args below meth c H locs 0 0 (MQ below (mQ w A (some (.int r)) xr) args s 0 0 A) (F0 m 9 ls [])) : ∀ (x : MS) (H : Heap) (locs : List Loc) (ls : Array Slot), mI w A x s.heap H locs → lv_has ls 2 [(0, .ref (w.2.2.1 28))] → fM_sumUp_b29 N k9 x  = some (r, xr) → W p l e rmM_sumUp s m args below meth c H locs 0 0 (MQ below (mQ w A (some (.int r)) xr) args s 0 0 A) (F0 m 29 ls []) := by
  have hx := C.1.1
  have hb := C.1.2.1
  have hown := C.1.2.2.2.1
  have hts := C.1.2.2.2.2.1
  have hE := C.2.2
  intro x  H locs ls hI hl hf
  rw [fM_sumUp_b29] at hf
  refine lv_aload_n hx hb dX3_sumUp_29 rfl (lv_at hl 0 rfl) ?_
  refine mg18 C hI dX3_sumUp_30 ?_
  refine lv_sipush (v := 143) hx hb dX3_sumUp_33 (by decide) ?_
  suffices hJ : ∀ v1 : Int32, (v1 = (if (gS x 18) = 143 then 23 else 24 : Int32)) → W p l e rmM_sumUp s m args below meth c H locs 0 0 (MQ below (mQ w A (some (.int r)) xr) args s 0 0 A) (F0 m 46 ls [.int v1]) by
    refine lv_icmp_ne (tgt := 44) hx hb dX3_sumUp_36 (by decide) (fun hc => ?_) (fun hc => ?_)
    · refine lv_bipush (v := 24) hx hb dX3_sumUp_44 (by decide) ?_
      exact hJ _ (if_neg hc).symm
    · refine lv_bipush (v := 23) hx hb dX3_sumUp_39 (by decide) ?_
      refine lv_goto (tgt := 46) hx hb dX3_sumUp_41 (by decide) ?_
      exact hJ _ (if_pos hc).symm
  intro v1 hv
  have hf := lt_of hv hf
  refine lv_istore_n (lv' := [(1, .int v1), (0, .ref (w.2.2.1 28))]) hx hb dX3_sumUp_46 rfl hl (by decide) rfl (fun ls hl => ?_)
  refine lv_aload_n hx hb dX3_sumUp_47 rfl (lv_at hl 1 rfl) ?_
  refine m_callv (rest := []) C hI hf (mm_next0 l N _) rfl cqM_next0 ⟨rfl, rfl⟩ ⟨Nat.le_of_ble_eq_true rfl, Nat.le_of_ble_eq_true rfl⟩ rfl hl.1 rfl (Nat.le_of_ble_eq_true rfl) dX3_sumUp_48 (fun x2 H locs hI hf => ?_)
  refine lv_aload_n hx hb dX3_sumUp_51 rfl (lv_at hl 1 rfl) ?_
  refine m_calli (rest := []) C hI hf (mm_product l N _) rfl cqM_product ⟨rfl, rfl⟩ ⟨Nat.le_of_ble_eq_true rfl, Nat.le_of_ble_eq_true rfl⟩ rfl hl.1 rfl (Nat.le_of_ble_eq_true rfl) dX3_sumUp_52 (fun v4 x3 H locs hI hf => ?_)
  refine b_ifne (tgt := 60) hx hb hf dX3_sumUp_55 (by decide) (fun hf => ?_) (fun hf => ?_)
  · refine lv_aload_n hx hb dX3_sumUp_60 rfl (lv_at hl 1 rfl) ?_
    refine lv_iload_n hx hb dX3_sumUp_61 rfl (lv_at hl 0 rfl) ?_
    refine lv_iconst (v := 0) hx hb dX3_sumUp_62 (by decide) ?_
    refine m_callv (rest := []) C hI hf (mm_lay l N _ _ _) rfl cqM_lay ⟨rfl, rfl⟩ ⟨Nat.le_of_ble_eq_true rfl, Nat.le_of_ble_eq_true rfl⟩ rfl hl.1 rfl (Nat.le_of_ble_eq_true rfl) dX3_sumUp_63 (fun x5 H locs hI hf => ?_)
    refine lv_goto (tgt := 9) hx hb dX3_sumUp_66 (by decide) ?_
    exact hk9 x5 _ _ _ hI (lv_sub hl [1] rfl) hf
  · refine lv_iconst (v := 0) hx hb dX3_sumUp_58 (by decide) ?_
    exact m_zretc C hI zb_0 hf dX3_sumUp_59
def fM_sumUp_b9 (N : Nat) : Nat → MS → Option (Int32 × MS)
  | 0, _ => none
  | n + 1, x =>
  if (gS x 18) = 143 then
    fM_sumUp_b29 N (fM_sumUp_b9 N n) x
  else
    if (gS x 18) = 145 then
      fM_sumUp_b29 N (fM_sumUp_b9 N n) x
    else
      some (1, x)
theorem w_fM_sumUp_b9 {N : Nat} {r : Int32} {xr : MS} (C : mC w A p s m args meth c cX3_sumUp 2 (some .boolean)) : ∀ (n : Nat) (x : MS) (H : Heap) (locs : List Loc) (ls : Array Slot), mI w A x s.heap H locs → lv_has ls 2 [(0, .ref (w.2.2.1 28))] → fM_sumUp_b9 N n x  = some (r, xr) → W p l e rmM_sumUp s m args below meth c H locs 0 0 (MQ below (mQ w A (some (.int r)) xr) args s 0 0 A) (F0 m 9 ls []) := by
  have hx := C.1.1
  have hb := C.1.2.1
  have hown := C.1.2.2.2.1
  have hts := C.1.2.2.2.2.1
  have hE := C.2.2
  intro n
  induction n with
  | zero => intro x  H locs ls hI hl hf; rw [fM_sumUp_b9] at hf; cases hf
  | succ n ih =>
  intro x  H locs ls hI hl hf
  rw [fM_sumUp_b9] at hf
  refine lv_aload_n hx hb dX3_sumUp_9 rfl (lv_at hl 0 rfl) ?_
  refine mg18 C hI dX3_sumUp_10 ?_
  refine lv_sipush (v := 143) hx hb dX3_sumUp_13 (by decide) ?_
  refine b_iceq (tgt := 29) hx hb hf dX3_sumUp_16 (by decide) (fun hf => ?_) (fun hf => ?_)
  · exact w_fM_sumUp_b29 C ih x _ _ _ hI (lv_sub hl [0] rfl) hf
  · refine lv_aload_n hx hb dX3_sumUp_19 rfl (lv_at hl 0 rfl) ?_
    refine mg18 C hI dX3_sumUp_20 ?_
    refine lv_sipush (v := 145) hx hb dX3_sumUp_23 (by decide) ?_
    refine b_icne (tgt := 69) hx hb hf dX3_sumUp_26 (by decide) (fun hf => ?_) (fun hf => ?_)
    · refine lv_iconst (v := 1) hx hb dX3_sumUp_69 (by decide) ?_
      exact m_zretc C hI zb_1 hf dX3_sumUp_70
    · exact w_fM_sumUp_b29 C ih x _ _ _ hI (lv_sub hl [0] rfl) hf
def fM_sumUp (N : Nat) (x : MS) : Option (Int32 × MS) :=
  b2 (fM_product N x) fun v2 x1 =>
  if v2 = 0 then
    some (0, x1)
  else
    fM_sumUp_b9 N N x1
theorem mm_sumUp (l : Launch) (N : Nat) {w : mO} {A : Nat → Prop} : ∀ (x : MS) (r : Int32) (xr : MS), fM_sumUp N x  = some (r, xr) → mMet l yX3_sumUp (ws_ yX3_sumUp cX3_sumUp 2 (some .boolean)) rmM_sumUp [.ref (w.2.2.1 28)] w A x (some (.int r)) xr := by
  intro x  r xr hf
  refine m_start (cc := cX3_sumUp) (by decide +kernel) rfl (Nat.le_of_ble_eq_true rfl) rfl ?_
  intro p e s m args below meth c ls H locs C hI hl
  have hx := C.1.1
  have hb := C.1.2.1
  have hown := C.1.2.2.2.1
  have hts := C.1.2.2.2.2.1
  have hE := C.2.2
  rw [fM_sumUp] at hf
  refine lv_aload_n hx hb dX3_sumUp_0 rfl (lv_at hl 0 rfl) ?_
  refine m_calli (rest := []) C hI hf (mm_product l N _) rfl cqM_product ⟨rfl, rfl⟩ ⟨Nat.le_of_ble_eq_true rfl, Nat.le_of_ble_eq_true rfl⟩ rfl hl.1 rfl (Nat.le_of_ble_eq_true rfl) dX3_sumUp_1 (fun v2 x1 H locs hI hf => ?_)
  refine b_ifne (tgt := 9) hx hb hf dX3_sumUp_4 (by decide) (fun hf => ?_) (fun hf => ?_)
  · exact w_fM_sumUp_b9 C N x1 _ _ _ hI (lv_sub hl [0] rfl) hf
  · refine lv_iconst (v := 0) hx hb dX3_sumUp_7 (by decide) ?_
    exact m_zretc C hI zb_0 hf dX3_sumUp_8
/-! oneTest, every, any: depth d -/
abbrev rmM_oneTest (d : Nat) : Room := { frames := 12 + 3 * d, cells := 0, slots := 0, locals := 263 + 90 * d }
abbrev rmM_every (d : Nat) : Room := { frames := 12 + 1 + 3 * d, cells := 0, slots := 0, locals := 263 + 30 + 90 * d }
abbrev rmM_any (d : Nat) : Room := { frames := 12 + 2 + 3 * d, cells := 0, slots := 0, locals := 263 + 60 + 90 * d }
/-! every()Z -/

def fM_every_b9 (N : Nat) (K : MS → Option (Int32 × MS)) : Nat → MS → Option (Int32 × MS)
  | 0, _ => none
  | n + 1, x =>
  if (gS x 18) = 5 then
    (fM_next0 N x).bind fun x1 =>
    b2 (K x1) fun v3 x2 =>
    if v3 = 0 then
      some (0, x2)
    else
      (fM_lay N x2 31 0).bind fun x4 =>
      fM_every_b9 N K n x4
  else
    some (1, x)
theorem w_fM_every_b9 {N : Nat} {r : Int32} {xr : MS} {K : MS → Option (Int32 × MS)} {d : Nat} (C : mC w A p s m args meth c cX3_every 1 (some .boolean)) (hK : ∀ (x : MS) (r : Int32) (xr : MS), K x = some (r, xr) → mMet l yX3_oneTest (ws_ yX3_oneTest cX3_oneTest 2 (some .boolean)) (rmM_oneTest d) [.ref (w.2.2.1 28)] w A x (some (.int r)) xr) : ∀ (n : Nat) (x : MS) (H : Heap) (locs : List Loc) (ls : Array Slot), mI w A x s.heap H locs → lv_has ls 1 [(0, .ref (w.2.2.1 28))] → fM_every_b9 N K n x  = some (r, xr) → W p l e (rmM_every d) s m args below meth c H locs 0 0 (MQ below (mQ w A (some (.int r)) xr) args s 0 0 A) (F0 m 9 ls []) := by
  have hx := C.1.1
  have hb := C.1.2.1
  have hown := C.1.2.2.2.1
  have hts := C.1.2.2.2.2.1
  have hE := C.2.2
  intro n
  induction n with
  | zero => intro x  H locs ls hI hl hf; rw [fM_every_b9] at hf; cases hf
  | succ n ih =>
  intro x  H locs ls hI hl hf
  rw [fM_every_b9] at hf
  refine lv_aload_n hx hb dX3_every_9 rfl (lv_at hl 0 rfl) ?_
  refine mg18 C hI dX3_every_10 ?_
  refine lv_iconst (v := 5) hx hb dX3_every_13 (by decide) ?_
  refine b_icne (tgt := 40) hx hb hf dX3_every_14 (by decide) (fun hf => ?_) (fun hf => ?_)
  · refine lv_iconst (v := 1) hx hb dX3_every_40 (by decide) ?_
    exact m_zretc C hI zb_1 hf dX3_every_41
  · refine lv_aload_n hx hb dX3_every_17 rfl (lv_at hl 0 rfl) ?_
    refine m_callv (rest := []) C hI hf (mm_next0 l N _) rfl cqM_next0 ⟨rfl, rfl⟩ (by constructor <;> simp only [rmM_every, rmM_next0] <;> omega) rfl hl.1 rfl (Nat.le_of_ble_eq_true rfl) dX3_every_18 (fun x1 H locs hI hf => ?_)
    refine lv_aload_n hx hb dX3_every_21 rfl (lv_at hl 0 rfl) ?_
    refine m_calli (rest := []) C hI hf (hK _) rfl cqM_oneTest ⟨rfl, rfl⟩ (by constructor <;> simp only [rmM_every, rmM_oneTest] <;> omega) rfl hl.1 rfl (Nat.le_of_ble_eq_true rfl) dX3_every_22 (fun v3 x2 H locs hI hf => ?_)
    refine b_ifne (tgt := 30) hx hb hf dX3_every_25 (by decide) (fun hf => ?_) (fun hf => ?_)
    · refine lv_aload_n hx hb dX3_every_30 rfl (lv_at hl 0 rfl) ?_
      refine lv_bipush (v := 31) hx hb dX3_every_31 (by decide) ?_
      refine lv_iconst (v := 0) hx hb dX3_every_33 (by decide) ?_
      refine m_callv (rest := []) C hI hf (mm_lay l N _ _ _) rfl cqM_lay ⟨rfl, rfl⟩ (by constructor <;> simp only [rmM_every, rmM_lay] <;> omega) rfl hl.1 rfl (Nat.le_of_ble_eq_true rfl) dX3_every_34 (fun x4 H locs hI hf => ?_)
      refine lv_goto (tgt := 9) hx hb dX3_every_37 (by decide) ?_
      exact ih x4 _ _ _ hI (lv_sub hl [0] rfl) hf
    · refine lv_iconst (v := 0) hx hb dX3_every_28 (by decide) ?_
      exact m_zretc C hI zb_0 hf dX3_every_29
def fM_every (N : Nat) (K : MS → Option (Int32 × MS)) (x : MS) : Option (Int32 × MS) :=
  b2 (K x) fun v2 x1 =>
  if v2 = 0 then
    some (0, x1)
  else
    fM_every_b9 N K N x1
theorem mm_every (l : Launch) (N : Nat) {w : mO} {A : Nat → Prop} {K : MS → Option (Int32 × MS)} {d : Nat} (hK : ∀ (x : MS) (r : Int32) (xr : MS), K x = some (r, xr) → mMet l yX3_oneTest (ws_ yX3_oneTest cX3_oneTest 2 (some .boolean)) (rmM_oneTest d) [.ref (w.2.2.1 28)] w A x (some (.int r)) xr) : ∀ (x : MS) (r : Int32) (xr : MS), fM_every N K x  = some (r, xr) → mMet l yX3_every (ws_ yX3_every cX3_every 1 (some .boolean)) (rmM_every d) [.ref (w.2.2.1 28)] w A x (some (.int r)) xr := by
  intro x  r xr hf
  refine m_start (cc := cX3_every) (by decide +kernel) rfl (Nat.le_of_ble_eq_true rfl) rfl ?_
  intro p e s m args below meth c ls H locs C hI hl
  have hx := C.1.1
  have hb := C.1.2.1
  have hown := C.1.2.2.2.1
  have hts := C.1.2.2.2.2.1
  have hE := C.2.2
  rw [fM_every] at hf
  refine lv_aload_n hx hb dX3_every_0 rfl (lv_at hl 0 rfl) ?_
  refine m_calli (rest := []) C hI hf (hK _) rfl cqM_oneTest ⟨rfl, rfl⟩ (by constructor <;> simp only [rmM_every, rmM_oneTest] <;> omega) rfl hl.1 rfl (Nat.le_of_ble_eq_true rfl) dX3_every_1 (fun v2 x1 H locs hI hf => ?_)
  refine b_ifne (tgt := 9) hx hb hf dX3_every_4 (by decide) (fun hf => ?_) (fun hf => ?_)
  · exact w_fM_every_b9 C hK N x1 _ _ _ hI (lv_sub hl [0] rfl) hf
  · refine lv_iconst (v := 0) hx hb dX3_every_7 (by decide) ?_
    exact m_zretc C hI zb_0 hf dX3_every_8
/-! any()Z -/

def fM_any_b9 (N : Nat) (K : MS → Option (Int32 × MS)) : Nat → MS → Option (Int32 × MS)
  | 0, _ => none
  | n + 1, x =>
  if (gS x 18) = 4 then
    (fM_next0 N x).bind fun x1 =>
    b2 (fM_every N K x1) fun v3 x2 =>
    if v3 = 0 then
      some (0, x2)
    else
      (fM_lay N x2 32 0).bind fun x4 =>
      fM_any_b9 N K n x4
  else
    some (1, x)
theorem w_fM_any_b9 {N : Nat} {r : Int32} {xr : MS} {K : MS → Option (Int32 × MS)} {d : Nat} (C : mC w A p s m args meth c cX3_any 1 (some .boolean)) (hK : ∀ (x : MS) (r : Int32) (xr : MS), K x = some (r, xr) → mMet l yX3_oneTest (ws_ yX3_oneTest cX3_oneTest 2 (some .boolean)) (rmM_oneTest d) [.ref (w.2.2.1 28)] w A x (some (.int r)) xr) : ∀ (n : Nat) (x : MS) (H : Heap) (locs : List Loc) (ls : Array Slot), mI w A x s.heap H locs → lv_has ls 1 [(0, .ref (w.2.2.1 28))] → fM_any_b9 N K n x  = some (r, xr) → W p l e (rmM_any d) s m args below meth c H locs 0 0 (MQ below (mQ w A (some (.int r)) xr) args s 0 0 A) (F0 m 9 ls []) := by
  have hx := C.1.1
  have hb := C.1.2.1
  have hown := C.1.2.2.2.1
  have hts := C.1.2.2.2.2.1
  have hE := C.2.2
  intro n
  induction n with
  | zero => intro x  H locs ls hI hl hf; rw [fM_any_b9] at hf; cases hf
  | succ n ih =>
  intro x  H locs ls hI hl hf
  rw [fM_any_b9] at hf
  refine lv_aload_n hx hb dX3_any_9 rfl (lv_at hl 0 rfl) ?_
  refine mg18 C hI dX3_any_10 ?_
  refine lv_iconst (v := 4) hx hb dX3_any_13 (by decide) ?_
  refine b_icne (tgt := 40) hx hb hf dX3_any_14 (by decide) (fun hf => ?_) (fun hf => ?_)
  · refine lv_iconst (v := 1) hx hb dX3_any_40 (by decide) ?_
    exact m_zretc C hI zb_1 hf dX3_any_41
  · refine lv_aload_n hx hb dX3_any_17 rfl (lv_at hl 0 rfl) ?_
    refine m_callv (rest := []) C hI hf (mm_next0 l N _) rfl cqM_next0 ⟨rfl, rfl⟩ (by constructor <;> simp only [rmM_any, rmM_next0] <;> omega) rfl hl.1 rfl (Nat.le_of_ble_eq_true rfl) dX3_any_18 (fun x1 H locs hI hf => ?_)
    refine lv_aload_n hx hb dX3_any_21 rfl (lv_at hl 0 rfl) ?_
    refine m_calli (rest := []) C hI hf (mm_every l N hK _) rfl cqM_every ⟨rfl, rfl⟩ (by constructor <;> simp only [rmM_any, rmM_every] <;> omega) rfl hl.1 rfl (Nat.le_of_ble_eq_true rfl) dX3_any_22 (fun v3 x2 H locs hI hf => ?_)
    refine b_ifne (tgt := 30) hx hb hf dX3_any_25 (by decide) (fun hf => ?_) (fun hf => ?_)
    · refine lv_aload_n hx hb dX3_any_30 rfl (lv_at hl 0 rfl) ?_
      refine lv_bipush (v := 32) hx hb dX3_any_31 (by decide) ?_
      refine lv_iconst (v := 0) hx hb dX3_any_33 (by decide) ?_
      refine m_callv (rest := []) C hI hf (mm_lay l N _ _ _) rfl cqM_lay ⟨rfl, rfl⟩ (by constructor <;> simp only [rmM_any, rmM_lay] <;> omega) rfl hl.1 rfl (Nat.le_of_ble_eq_true rfl) dX3_any_34 (fun x4 H locs hI hf => ?_)
      refine lv_goto (tgt := 9) hx hb dX3_any_37 (by decide) ?_
      exact ih x4 _ _ _ hI (lv_sub hl [0] rfl) hf
    · refine lv_iconst (v := 0) hx hb dX3_any_28 (by decide) ?_
      exact m_zretc C hI zb_0 hf dX3_any_29
def fM_any (N : Nat) (K : MS → Option (Int32 × MS)) (x : MS) : Option (Int32 × MS) :=
  b2 (fM_every N K x) fun v2 x1 =>
  if v2 = 0 then
    some (0, x1)
  else
    fM_any_b9 N K N x1
theorem mm_any (l : Launch) (N : Nat) {w : mO} {A : Nat → Prop} {K : MS → Option (Int32 × MS)} {d : Nat} (hK : ∀ (x : MS) (r : Int32) (xr : MS), K x = some (r, xr) → mMet l yX3_oneTest (ws_ yX3_oneTest cX3_oneTest 2 (some .boolean)) (rmM_oneTest d) [.ref (w.2.2.1 28)] w A x (some (.int r)) xr) : ∀ (x : MS) (r : Int32) (xr : MS), fM_any N K x  = some (r, xr) → mMet l yX3_any (ws_ yX3_any cX3_any 1 (some .boolean)) (rmM_any d) [.ref (w.2.2.1 28)] w A x (some (.int r)) xr := by
  intro x  r xr hf
  refine m_start (cc := cX3_any) (by decide +kernel) rfl (Nat.le_of_ble_eq_true rfl) rfl ?_
  intro p e s m args below meth c ls H locs C hI hl
  have hx := C.1.1
  have hb := C.1.2.1
  have hown := C.1.2.2.2.1
  have hts := C.1.2.2.2.2.1
  have hE := C.2.2
  rw [fM_any] at hf
  refine lv_aload_n hx hb dX3_any_0 rfl (lv_at hl 0 rfl) ?_
  refine m_calli (rest := []) C hI hf (mm_every l N hK _) rfl cqM_every ⟨rfl, rfl⟩ (by constructor <;> simp only [rmM_any, rmM_every] <;> omega) rfl hl.1 rfl (Nat.le_of_ble_eq_true rfl) dX3_any_1 (fun v2 x1 H locs hI hf => ?_)
  refine b_ifne (tgt := 9) hx hb hf dX3_any_4 (by decide) (fun hf => ?_) (fun hf => ?_)
  · exact w_fM_any_b9 C hK N x1 _ _ _ hI (lv_sub hl [0] rfl) hf
  · refine lv_iconst (v := 0) hx hb dX3_any_7 (by decide) ?_
    exact m_zretc C hI zb_0 hf dX3_any_8
/-! oneTest()Z -/

def fM_oneTestB_b147 (N : Nat) (K : MS → Option (Int32 × MS)) (x : MS) (s0 : Int32) : Option (Int32 × MS) :=
  if s0 = (-1) then
    b2 (fM_bad N x 1) fun v6 x5 =>
    some (zb v6, x5)
  else
    (fM_next0 N x).bind fun x1 =>
    b2 (fM_sumUp N x1) fun v3 x2 =>
    if v3 = 0 then
      some (0, x2)
    else
      (fM_lay N x2 s0 0).bind fun x4 =>
      some (1, x4)
theorem w_fM_oneTestB_b147 {N : Nat} {r : Int32} {xr : MS} {K : MS → Option (Int32 × MS)} {d : Nat} (C : mC w A p s m args meth c cX3_oneTest 2 (some .boolean)) (hK : ∀ (x : MS) (r : Int32) (xr : MS), K x = some (r, xr) → mMet l yX3_oneTest (ws_ yX3_oneTest cX3_oneTest 2 (some .boolean)) (rmM_oneTest d) [.ref (w.2.2.1 28)] w A x (some (.int r)) xr) : ∀ (x : MS) (s0 : Int32) (H : Heap) (locs : List Loc) (ls : Array Slot), mI w A x s.heap H locs → lv_has ls 2 [(0, .ref (w.2.2.1 28))] → fM_oneTestB_b147 N K x s0 = some (r, xr) → W p l e (rmM_oneTest (d + 1)) s m args below meth c H locs 0 0 (MQ below (mQ w A (some (.int r)) xr) args s 0 0 A) (F0 m 147 ls [.int s0]) := by
  have hx := C.1.1
  have hb := C.1.2.1
  have hown := C.1.2.2.2.1
  have hts := C.1.2.2.2.2.1
  have hE := C.2.2
  intro x s0 H locs ls hI hl hf
  rw [fM_oneTestB_b147] at hf
  refine lv_istore_n (lv' := [(1, .int s0), (0, .ref (w.2.2.1 28))]) hx hb dX3_oneTest_147 rfl hl (by decide) rfl (fun ls hl => ?_)
  refine lv_iload_n hx hb dX3_oneTest_148 rfl (lv_at hl 0 rfl) ?_
  refine lv_iconst (v := (-1)) hx hb dX3_oneTest_149 (by decide) ?_
  refine b_icne (tgt := 159) hx hb hf dX3_oneTest_150 (by decide) (fun hf => ?_) (fun hf => ?_)
  · refine lv_aload_n hx hb dX3_oneTest_159 rfl (lv_at hl 1 rfl) ?_
    refine m_callv (rest := []) C hI hf (mm_next0 l N _) rfl cqM_next0 ⟨rfl, rfl⟩ (by constructor <;> simp only [rmM_oneTest, rmM_next0] <;> omega) rfl hl.1 rfl (Nat.le_of_ble_eq_true rfl) dX3_oneTest_160 (fun x1 H locs hI hf => ?_)
    refine lv_aload_n hx hb dX3_oneTest_163 rfl (lv_at hl 1 rfl) ?_
    refine m_calli (rest := []) C hI hf (mm_sumUp l N _) rfl cqM_sumUp ⟨rfl, rfl⟩ (by constructor <;> simp only [rmM_oneTest, rmM_sumUp] <;> omega) rfl hl.1 rfl (Nat.le_of_ble_eq_true rfl) dX3_oneTest_164 (fun v3 x2 H locs hI hf => ?_)
    refine b_ifne (tgt := 172) hx hb hf dX3_oneTest_167 (by decide) (fun hf => ?_) (fun hf => ?_)
    · refine lv_aload_n hx hb dX3_oneTest_172 rfl (lv_at hl 1 rfl) ?_
      refine lv_iload_n hx hb dX3_oneTest_173 rfl (lv_at hl 0 rfl) ?_
      refine lv_iconst (v := 0) hx hb dX3_oneTest_174 (by decide) ?_
      refine m_callv (rest := []) C hI hf (mm_lay l N _ _ _) rfl cqM_lay ⟨rfl, rfl⟩ (by constructor <;> simp only [rmM_oneTest, rmM_lay] <;> omega) rfl hl.1 rfl (Nat.le_of_ble_eq_true rfl) dX3_oneTest_175 (fun x4 H locs hI hf => ?_)
      refine lv_iconst (v := 1) hx hb dX3_oneTest_178 (by decide) ?_
      exact m_zretc C hI zb_1 hf dX3_oneTest_179
    · refine lv_iconst (v := 0) hx hb dX3_oneTest_170 (by decide) ?_
      exact m_zretc C hI zb_0 hf dX3_oneTest_171
  · refine lv_aload_n hx hb dX3_oneTest_153 rfl (lv_at hl 1 rfl) ?_
    refine lv_iconst (v := 1) hx hb dX3_oneTest_154 (by decide) ?_
    refine m_calli (rest := []) C hI hf (mm_bad l N _ _) rfl cqM_bad ⟨rfl, rfl⟩ (by constructor <;> simp only [rmM_oneTest, rmM_bad] <;> omega) rfl hl.1 rfl (Nat.le_of_ble_eq_true rfl) dX3_oneTest_155 (fun v6 x5 H locs hI hf => ?_)
    exact m_zret C hI hf dX3_oneTest_158
def fM_oneTestB (N : Nat) (K : MS → Option (Int32 × MS)) (x : MS) : Option (Int32 × MS) :=
  if (gS x 18) = 6 then
    b2 (fM_opens N x) fun v10 x9 =>
    if v10 = 0 then
      some (0, x9)
    else
      b2 (K x9) fun v12 x11 =>
      if v12 = 0 then
        some (0, x11)
      else
        (fM_lay N (sS x11 24 ((gS x11 24) - 1)) 30 0).bind fun x13 =>
        some (1, x13)
  else
    if (gS x 18) = 140 then
      b2 (fM_opens N x) fun v4 x3 =>
      if v4 = 0 then
        some (0, x3)
      else
        b2 (fM_any N K x3) fun v6 x5 =>
        if v6 = 0 then
          some (0, x5)
        else
          b2 (fM_need N x5 141) fun v8 x7 =>
          if v8 = 0 then
            some (0, x7)
          else
            some (1, sS x7 24 ((gS x7 24) - 1))
    else
      b2 (fM_sumUp N x) fun v2 x1 =>
      if v2 = 0 then
        some (0, x1)
      else
        if (gS x1 18) = 160 then
          fM_oneTestB_b147 N K x1 27
        else
          if (gS x1 18) = 161 then
            fM_oneTestB_b147 N K x1 28
          else
            if (gS x1 18) = 162 then
              fM_oneTestB_b147 N K x1 29
            else
              fM_oneTestB_b147 N K x1 (-1)
theorem mm_oneTestB (l : Launch) (N : Nat) {w : mO} {A : Nat → Prop} {K : MS → Option (Int32 × MS)} {d : Nat} (hK : ∀ (x : MS) (r : Int32) (xr : MS), K x = some (r, xr) → mMet l yX3_oneTest (ws_ yX3_oneTest cX3_oneTest 2 (some .boolean)) (rmM_oneTest d) [.ref (w.2.2.1 28)] w A x (some (.int r)) xr) : ∀ (x : MS) (r : Int32) (xr : MS), fM_oneTestB N K x  = some (r, xr) → mMet l yX3_oneTest (ws_ yX3_oneTest cX3_oneTest 2 (some .boolean)) (rmM_oneTest (d + 1)) [.ref (w.2.2.1 28)] w A x (some (.int r)) xr := by
  intro x  r xr hf
  refine m_start (cc := cX3_oneTest) (by decide +kernel) rfl (Nat.le_of_ble_eq_true rfl) rfl ?_
  intro p e s m args below meth c ls H locs C hI hl
  have hx := C.1.1
  have hb := C.1.2.1
  have hown := C.1.2.2.2.1
  have hts := C.1.2.2.2.2.1
  have hE := C.2.2
  rw [fM_oneTestB] at hf
  refine lv_aload_n hx hb dX3_oneTest_0 rfl (lv_at hl 0 rfl) ?_
  refine mg18 C hI dX3_oneTest_1 ?_
  refine lv_bipush (v := 6) hx hb dX3_oneTest_4 (by decide) ?_
  refine b_icne (tgt := 44) hx hb hf dX3_oneTest_6 (by decide) (fun hf => ?_) (fun hf => ?_)
  · refine lv_aload_n hx hb dX3_oneTest_44 rfl (lv_at hl 0 rfl) ?_
    refine mg18 C hI dX3_oneTest_45 ?_
    refine lv_sipush (v := 140) hx hb dX3_oneTest_48 (by decide) ?_
    refine b_icne (tgt := 92) hx hb hf dX3_oneTest_51 (by decide) (fun hf => ?_) (fun hf => ?_)
    · refine lv_aload_n hx hb dX3_oneTest_92 rfl (lv_at hl 0 rfl) ?_
      refine m_calli (rest := []) C hI hf (mm_sumUp l N _) rfl cqM_sumUp ⟨rfl, rfl⟩ (by constructor <;> simp only [rmM_oneTest, rmM_sumUp] <;> omega) rfl hl.1 rfl (Nat.le_of_ble_eq_true rfl) dX3_oneTest_93 (fun v2 x1 H locs hI hf => ?_)
      refine b_ifne (tgt := 101) hx hb hf dX3_oneTest_96 (by decide) (fun hf => ?_) (fun hf => ?_)
      · refine lv_aload_n hx hb dX3_oneTest_101 rfl (lv_at hl 0 rfl) ?_
        refine mg18 C hI dX3_oneTest_102 ?_
        refine lv_sipush (v := 160) hx hb dX3_oneTest_105 (by decide) ?_
        refine b_icne (tgt := 116) hx hb hf dX3_oneTest_108 (by decide) (fun hf => ?_) (fun hf => ?_)
        · refine lv_aload_n hx hb dX3_oneTest_116 rfl (lv_at hl 0 rfl) ?_
          refine mg18 C hI dX3_oneTest_117 ?_
          refine lv_sipush (v := 161) hx hb dX3_oneTest_120 (by decide) ?_
          refine b_icne (tgt := 131) hx hb hf dX3_oneTest_123 (by decide) (fun hf => ?_) (fun hf => ?_)
          · refine lv_aload_n hx hb dX3_oneTest_131 rfl (lv_at hl 0 rfl) ?_
            refine mg18 C hI dX3_oneTest_132 ?_
            refine lv_sipush (v := 162) hx hb dX3_oneTest_135 (by decide) ?_
            refine b_icne (tgt := 146) hx hb hf dX3_oneTest_138 (by decide) (fun hf => ?_) (fun hf => ?_)
            · refine lv_iconst (v := (-1)) hx hb dX3_oneTest_146 (by decide) ?_
              exact w_fM_oneTestB_b147 C hK x1 (-1) _ _ _ hI (lv_sub hl [0] rfl) hf
            · refine lv_bipush (v := 29) hx hb dX3_oneTest_141 (by decide) ?_
              refine lv_goto (tgt := 147) hx hb dX3_oneTest_143 (by decide) ?_
              exact w_fM_oneTestB_b147 C hK x1 29 _ _ _ hI (lv_sub hl [0] rfl) hf
          · refine lv_bipush (v := 28) hx hb dX3_oneTest_126 (by decide) ?_
            refine lv_goto (tgt := 147) hx hb dX3_oneTest_128 (by decide) ?_
            exact w_fM_oneTestB_b147 C hK x1 28 _ _ _ hI (lv_sub hl [0] rfl) hf
        · refine lv_bipush (v := 27) hx hb dX3_oneTest_111 (by decide) ?_
          refine lv_goto (tgt := 147) hx hb dX3_oneTest_113 (by decide) ?_
          exact w_fM_oneTestB_b147 C hK x1 27 _ _ _ hI (lv_sub hl [0] rfl) hf
      · refine lv_iconst (v := 0) hx hb dX3_oneTest_99 (by decide) ?_
        exact m_zretc C hI zb_0 hf dX3_oneTest_100
    · refine lv_aload_n hx hb dX3_oneTest_54 rfl (lv_at hl 0 rfl) ?_
      refine m_calli (rest := []) C hI hf (mm_opens l N _) rfl cqM_opens ⟨rfl, rfl⟩ (by constructor <;> simp only [rmM_oneTest, rmM_opens] <;> omega) rfl hl.1 rfl (Nat.le_of_ble_eq_true rfl) dX3_oneTest_55 (fun v4 x3 H locs hI hf => ?_)
      refine b_ifeq (tgt := 78) hx hb hf dX3_oneTest_58 (by decide) (fun hf => ?_) (fun hf => ?_)
      · refine lv_iconst (v := 0) hx hb dX3_oneTest_78 (by decide) ?_
        exact m_zretc C hI zb_0 hf dX3_oneTest_79
      · refine lv_aload_n hx hb dX3_oneTest_61 rfl (lv_at hl 0 rfl) ?_
        refine m_calli (rest := []) C hI hf (mm_any l N hK _) rfl cqM_any ⟨rfl, rfl⟩ (by constructor <;> simp only [rmM_oneTest, rmM_any] <;> omega) rfl hl.1 rfl (Nat.le_of_ble_eq_true rfl) dX3_oneTest_62 (fun v6 x5 H locs hI hf => ?_)
        refine b_ifeq (tgt := 78) hx hb hf dX3_oneTest_65 (by decide) (fun hf => ?_) (fun hf => ?_)
        · refine lv_iconst (v := 0) hx hb dX3_oneTest_78 (by decide) ?_
          exact m_zretc C hI zb_0 hf dX3_oneTest_79
        · refine lv_aload_n hx hb dX3_oneTest_68 rfl (lv_at hl 0 rfl) ?_
          refine lv_sipush (v := 141) hx hb dX3_oneTest_69 (by decide) ?_
          refine m_calli (rest := []) C hI hf (mm_need l N _ _) rfl cqM_need ⟨rfl, rfl⟩ (by constructor <;> simp only [rmM_oneTest, rmM_need] <;> omega) rfl hl.1 rfl (Nat.le_of_ble_eq_true rfl) dX3_oneTest_72 (fun v8 x7 H locs hI hf => ?_)
          refine b_ifne (tgt := 80) hx hb hf dX3_oneTest_75 (by decide) (fun hf => ?_) (fun hf => ?_)
          · refine lv_aload_n hx hb dX3_oneTest_80 rfl (lv_at hl 0 rfl) ?_
            refine lv_dup hx hb dX3_oneTest_81 rfl ?_
            refine mg24 C hI dX3_oneTest_82 ?_
            refine lv_iconst (v := 1) hx hb dX3_oneTest_85 (by decide) ?_
            refine lv_isub hx hb dX3_oneTest_86 ?_
            refine mp24 C hI dX3_oneTest_87 (fun H locs hI => ?_)
            refine lv_iconst (v := 1) hx hb dX3_oneTest_90 (by decide) ?_
            exact m_zretc C hI zb_1 hf dX3_oneTest_91
          · refine lv_iconst (v := 0) hx hb dX3_oneTest_78 (by decide) ?_
            exact m_zretc C hI zb_0 hf dX3_oneTest_79
  · refine lv_aload_n hx hb dX3_oneTest_9 rfl (lv_at hl 0 rfl) ?_
    refine m_calli (rest := []) C hI hf (mm_opens l N _) rfl cqM_opens ⟨rfl, rfl⟩ (by constructor <;> simp only [rmM_oneTest, rmM_opens] <;> omega) rfl hl.1 rfl (Nat.le_of_ble_eq_true rfl) dX3_oneTest_10 (fun v10 x9 H locs hI hf => ?_)
    refine b_ifeq (tgt := 23) hx hb hf dX3_oneTest_13 (by decide) (fun hf => ?_) (fun hf => ?_)
    · refine lv_iconst (v := 0) hx hb dX3_oneTest_23 (by decide) ?_
      exact m_zretc C hI zb_0 hf dX3_oneTest_24
    · refine lv_aload_n hx hb dX3_oneTest_16 rfl (lv_at hl 0 rfl) ?_
      refine m_calli (rest := []) C hI hf (hK _) rfl cqM_oneTest ⟨rfl, rfl⟩ (by constructor <;> simp only [rmM_oneTest, rmM_oneTest] <;> omega) rfl hl.1 rfl (Nat.le_of_ble_eq_true rfl) dX3_oneTest_17 (fun v12 x11 H locs hI hf => ?_)
      refine b_ifne (tgt := 25) hx hb hf dX3_oneTest_20 (by decide) (fun hf => ?_) (fun hf => ?_)
      · refine lv_aload_n hx hb dX3_oneTest_25 rfl (lv_at hl 0 rfl) ?_
        refine lv_dup hx hb dX3_oneTest_26 rfl ?_
        refine mg24 C hI dX3_oneTest_27 ?_
        refine lv_iconst (v := 1) hx hb dX3_oneTest_30 (by decide) ?_
        refine lv_isub hx hb dX3_oneTest_31 ?_
        refine mp24 C hI dX3_oneTest_32 (fun H locs hI => ?_)
        refine lv_aload_n hx hb dX3_oneTest_35 rfl (lv_at hl 0 rfl) ?_
        refine lv_bipush (v := 30) hx hb dX3_oneTest_36 (by decide) ?_
        refine lv_iconst (v := 0) hx hb dX3_oneTest_38 (by decide) ?_
        refine m_callv (rest := []) C hI hf (mm_lay l N _ _ _) rfl cqM_lay ⟨rfl, rfl⟩ (by constructor <;> simp only [rmM_oneTest, rmM_lay] <;> omega) rfl hl.1 rfl (Nat.le_of_ble_eq_true rfl) dX3_oneTest_39 (fun x13 H locs hI hf => ?_)
        refine lv_iconst (v := 1) hx hb dX3_oneTest_42 (by decide) ?_
        exact m_zretc C hI zb_1 hf dX3_oneTest_43
      · refine lv_iconst (v := 0) hx hb dX3_oneTest_23 (by decide) ?_
        exact m_zretc C hI zb_0 hf dX3_oneTest_24
def fM_oneTest (N : Nat) : Nat → MS → Option (Int32 × MS)
  | 0, _ => none
  | d + 1, x => fM_oneTestB N (fM_oneTest N d) x
theorem mm_oneTest (l : Launch) (N : Nat) {w : mO} {A : Nat → Prop} : ∀ (d : Nat) (x : MS) (r : Int32) (xr : MS), fM_oneTest N d x = some (r, xr) → mMet l yX3_oneTest (ws_ yX3_oneTest cX3_oneTest 2 (some .boolean)) (rmM_oneTest d) [.ref (w.2.2.1 28)] w A x (some (.int r)) xr := by
  intro d
  induction d with
  | zero => intro x r xr hf; cases hf
  | succ d ih => intro x r xr hf; exact mm_oneTestB l N ih x r xr hf
/-! aLine()Z -/
abbrev rmM_aLine : Room := { frames := 51, cells := 0, slots := 0, locals := 1423 }
def fM_aLine_b123 (N : Nat) (x : MS) : Option (Int32 × MS) :=
  (wr x 6 64 ((4 * (gS x 13)) + 2) (gS x 14)).bind fun x1 =>
  b2 (fM_need N x1 159) fun v3 x2 =>
  some (zb v3, x2)
theorem w_fM_aLine_b123 {N : Nat} {r : Int32} {xr : MS} (C : mC w A p s m args meth c cX3_aLine 1 (some .boolean)) : ∀ (x : MS) (H : Heap) (locs : List Loc) (ls : Array Slot), mI w A x s.heap H locs → lv_has ls 1 [(0, .ref (w.2.2.1 28))] → fM_aLine_b123 N x  = some (r, xr) → W p l e rmM_aLine s m args below meth c H locs 0 0 (MQ below (mQ w A (some (.int r)) xr) args s 0 0 A) (F0 m 123 ls []) := by
  have hx := C.1.1
  have hb := C.1.2.1
  have hown := C.1.2.2.2.1
  have hts := C.1.2.2.2.2.1
  have hE := C.2.2
  intro x  H locs ls hI hl hf
  rw [fM_aLine_b123] at hf
  refine lv_aload_n hx hb dX3_aLine_123 rfl (lv_at hl 0 rfl) ?_
  refine mg6 C hI dX3_aLine_124 ?_
  refine lv_iconst (v := 4) hx hb dX3_aLine_127 (by decide) ?_
  refine lv_aload_n hx hb dX3_aLine_128 rfl (lv_at hl 0 rfl) ?_
  refine mg13 C hI dX3_aLine_129 ?_
  refine lv_imul hx hb dX3_aLine_132 ?_
  refine lv_iconst (v := 2) hx hb dX3_aLine_133 (by decide) ?_
  refine lv_iadd hx hb dX3_aLine_134 ?_
  refine lv_aload_n hx hb dX3_aLine_135 rfl (lv_at hl 0 rfl) ?_
  refine mg14 C hI dX3_aLine_136 ?_
  refine ms6 C hI hf dX3_aLine_139 (fun x1 H locs hI hf => ?_)
  refine lv_aload_n hx hb dX3_aLine_140 rfl (lv_at hl 0 rfl) ?_
  refine lv_sipush (v := 159) hx hb dX3_aLine_141 (by decide) ?_
  refine m_calli (rest := []) C hI hf (mm_need l N _ _) rfl cqM_need ⟨rfl, rfl⟩ ⟨Nat.le_of_ble_eq_true rfl, Nat.le_of_ble_eq_true rfl⟩ rfl hl.1 rfl (Nat.le_of_ble_eq_true rfl) dX3_aLine_144 (fun v3 x2 H locs hI hf => ?_)
  exact m_zret C hI hf dX3_aLine_147
def fM_aLine (N : Nat) (x : MS) : Option (Int32 × MS) :=
  (fM_isIn N (gS x 18) 20 23).bind fun v1 =>
  if v1 = 0 then
    b2 (fM_bad N x 1) fun v14 x13 =>
    some (zb v14, x13)
  else
    if (gS x 13) = 16 then
      b2 (fM_bad N x 3) fun v12 x11 =>
      some (zb v12, x11)
    else
      (wr (sS x 24 0) 6 64 ((4 * (gS (sS x 24 0) 13)) + 3) (gS (sS x 24 0) 18)).bind fun x2 =>
      (fM_next0 N x2).bind fun x3 =>
      (wr x3 6 64 (4 * (gS x3 13)) (gS x3 14)).bind fun x4 =>
      b2 (fM_sumUp N x4) fun v6 x5 =>
      if v6 = 0 then
        some (0, x5)
      else
        (wr x5 6 64 ((4 * (gS x5 13)) + 1) (gS x5 14)).bind fun x7 =>
        if (gS x7 18) = 3 then
          (fM_next0 N x7).bind fun x8 =>
          b2 (fM_any N (fM_oneTest N 12) x8) fun v10 x9 =>
          if v10 = 0 then
            some (0, x9)
          else
            fM_aLine_b123 N x9
        else
          fM_aLine_b123 N x7
theorem mm_aLine (l : Launch) (N : Nat) {w : mO} {A : Nat → Prop} : ∀ (x : MS) (r : Int32) (xr : MS), fM_aLine N x  = some (r, xr) → mMet l yX3_aLine (ws_ yX3_aLine cX3_aLine 1 (some .boolean)) rmM_aLine [.ref (w.2.2.1 28)] w A x (some (.int r)) xr := by
  intro x  r xr hf
  refine m_start (cc := cX3_aLine) (by decide +kernel) rfl (Nat.le_of_ble_eq_true rfl) rfl ?_
  intro p e s m args below meth c ls H locs C hI hl
  have hx := C.1.1
  have hb := C.1.2.1
  have hown := C.1.2.2.2.1
  have hts := C.1.2.2.2.2.1
  have hE := C.2.2
  rw [fM_aLine] at hf
  refine lv_aload_n hx hb dX3_aLine_0 rfl (lv_at hl 0 rfl) ?_
  refine mg18 C hI dX3_aLine_1 ?_
  refine lv_bipush (v := 20) hx hb dX3_aLine_4 (by decide) ?_
  refine lv_bipush (v := 23) hx hb dX3_aLine_6 (by decide) ?_
  refine g_calliS (rest := []) C.1 hf (smM_isIn l N _ _ _) cqM_M_isIn ⟨rfl, rfl⟩ ⟨Nat.le_of_ble_eq_true rfl, Nat.le_of_ble_eq_true rfl⟩ rfl hl.1 rfl (Nat.le_of_ble_eq_true rfl) ⟨Nat.zero_le _, Nat.zero_le _⟩ dX3_aLine_8 (fun v1 hf => ?_)
  refine b_ifne (tgt := 20) hx hb hf dX3_aLine_11 (by decide) (fun hf => ?_) (fun hf => ?_)
  · refine lv_aload_n hx hb dX3_aLine_20 rfl (lv_at hl 0 rfl) ?_
    refine mg13 C hI dX3_aLine_21 ?_
    refine lv_bipush (v := 16) hx hb dX3_aLine_24 (by decide) ?_
    refine b_icne (tgt := 35) hx hb hf dX3_aLine_26 (by decide) (fun hf => ?_) (fun hf => ?_)
    · refine lv_aload_n hx hb dX3_aLine_35 rfl (lv_at hl 0 rfl) ?_
      refine lv_iconst (v := 0) hx hb dX3_aLine_36 (by decide) ?_
      refine mp24 C hI dX3_aLine_37 (fun H locs hI => ?_)
      refine lv_aload_n hx hb dX3_aLine_40 rfl (lv_at hl 0 rfl) ?_
      refine mg6 C hI dX3_aLine_41 ?_
      refine lv_iconst (v := 4) hx hb dX3_aLine_44 (by decide) ?_
      refine lv_aload_n hx hb dX3_aLine_45 rfl (lv_at hl 0 rfl) ?_
      refine mg13 C hI dX3_aLine_46 ?_
      refine lv_imul hx hb dX3_aLine_49 ?_
      refine lv_iconst (v := 3) hx hb dX3_aLine_50 (by decide) ?_
      refine lv_iadd hx hb dX3_aLine_51 ?_
      refine lv_aload_n hx hb dX3_aLine_52 rfl (lv_at hl 0 rfl) ?_
      refine mg18 C hI dX3_aLine_53 ?_
      refine ms6 C hI hf dX3_aLine_56 (fun x2 H locs hI hf => ?_)
      refine lv_aload_n hx hb dX3_aLine_57 rfl (lv_at hl 0 rfl) ?_
      refine m_callv (rest := []) C hI hf (mm_next0 l N _) rfl cqM_next0 ⟨rfl, rfl⟩ ⟨Nat.le_of_ble_eq_true rfl, Nat.le_of_ble_eq_true rfl⟩ rfl hl.1 rfl (Nat.le_of_ble_eq_true rfl) dX3_aLine_58 (fun x3 H locs hI hf => ?_)
      refine lv_aload_n hx hb dX3_aLine_61 rfl (lv_at hl 0 rfl) ?_
      refine mg6 C hI dX3_aLine_62 ?_
      refine lv_iconst (v := 4) hx hb dX3_aLine_65 (by decide) ?_
      refine lv_aload_n hx hb dX3_aLine_66 rfl (lv_at hl 0 rfl) ?_
      refine mg13 C hI dX3_aLine_67 ?_
      refine lv_imul hx hb dX3_aLine_70 ?_
      refine lv_aload_n hx hb dX3_aLine_71 rfl (lv_at hl 0 rfl) ?_
      refine mg14 C hI dX3_aLine_72 ?_
      refine ms6 C hI hf dX3_aLine_75 (fun x4 H locs hI hf => ?_)
      refine lv_aload_n hx hb dX3_aLine_76 rfl (lv_at hl 0 rfl) ?_
      refine m_calli (rest := []) C hI hf (mm_sumUp l N _) rfl cqM_sumUp ⟨rfl, rfl⟩ ⟨Nat.le_of_ble_eq_true rfl, Nat.le_of_ble_eq_true rfl⟩ rfl hl.1 rfl (Nat.le_of_ble_eq_true rfl) dX3_aLine_77 (fun v6 x5 H locs hI hf => ?_)
      refine b_ifne (tgt := 85) hx hb hf dX3_aLine_80 (by decide) (fun hf => ?_) (fun hf => ?_)
      · refine lv_aload_n hx hb dX3_aLine_85 rfl (lv_at hl 0 rfl) ?_
        refine mg6 C hI dX3_aLine_86 ?_
        refine lv_iconst (v := 4) hx hb dX3_aLine_89 (by decide) ?_
        refine lv_aload_n hx hb dX3_aLine_90 rfl (lv_at hl 0 rfl) ?_
        refine mg13 C hI dX3_aLine_91 ?_
        refine lv_imul hx hb dX3_aLine_94 ?_
        refine lv_iconst (v := 1) hx hb dX3_aLine_95 (by decide) ?_
        refine lv_iadd hx hb dX3_aLine_96 ?_
        refine lv_aload_n hx hb dX3_aLine_97 rfl (lv_at hl 0 rfl) ?_
        refine mg14 C hI dX3_aLine_98 ?_
        refine ms6 C hI hf dX3_aLine_101 (fun x7 H locs hI hf => ?_)
        refine lv_aload_n hx hb dX3_aLine_102 rfl (lv_at hl 0 rfl) ?_
        refine mg18 C hI dX3_aLine_103 ?_
        refine lv_iconst (v := 3) hx hb dX3_aLine_106 (by decide) ?_
        refine b_icne (tgt := 123) hx hb hf dX3_aLine_107 (by decide) (fun hf => ?_) (fun hf => ?_)
        · exact w_fM_aLine_b123 C x7 _ _ _ hI (lv_sub hl [0] rfl) hf
        · refine lv_aload_n hx hb dX3_aLine_110 rfl (lv_at hl 0 rfl) ?_
          refine m_callv (rest := []) C hI hf (mm_next0 l N _) rfl cqM_next0 ⟨rfl, rfl⟩ ⟨Nat.le_of_ble_eq_true rfl, Nat.le_of_ble_eq_true rfl⟩ rfl hl.1 rfl (Nat.le_of_ble_eq_true rfl) dX3_aLine_111 (fun x8 H locs hI hf => ?_)
          refine lv_aload_n hx hb dX3_aLine_114 rfl (lv_at hl 0 rfl) ?_
          refine m_calli (rest := []) C hI hf (mm_any l N (mm_oneTest l N 12) _) rfl cqM_any ⟨rfl, rfl⟩ ⟨Nat.le_of_ble_eq_true rfl, Nat.le_of_ble_eq_true rfl⟩ rfl hl.1 rfl (Nat.le_of_ble_eq_true rfl) dX3_aLine_115 (fun v10 x9 H locs hI hf => ?_)
          refine b_ifne (tgt := 123) hx hb hf dX3_aLine_118 (by decide) (fun hf => ?_) (fun hf => ?_)
          · exact w_fM_aLine_b123 C x9 _ _ _ hI (lv_sub hl [0] rfl) hf
          · refine lv_iconst (v := 0) hx hb dX3_aLine_121 (by decide) ?_
            exact m_zretc C hI zb_0 hf dX3_aLine_122
      · refine lv_iconst (v := 0) hx hb dX3_aLine_83 (by decide) ?_
        exact m_zretc C hI zb_0 hf dX3_aLine_84
    · refine lv_aload_n hx hb dX3_aLine_29 rfl (lv_at hl 0 rfl) ?_
      refine lv_iconst (v := 3) hx hb dX3_aLine_30 (by decide) ?_
      refine m_calli (rest := []) C hI hf (mm_bad l N _ _) rfl cqM_bad ⟨rfl, rfl⟩ ⟨Nat.le_of_ble_eq_true rfl, Nat.le_of_ble_eq_true rfl⟩ rfl hl.1 rfl (Nat.le_of_ble_eq_true rfl) dX3_aLine_31 (fun v12 x11 H locs hI hf => ?_)
      exact m_zret C hI hf dX3_aLine_34
  · refine lv_aload_n hx hb dX3_aLine_14 rfl (lv_at hl 0 rfl) ?_
    refine lv_iconst (v := 1) hx hb dX3_aLine_15 (by decide) ?_
    refine m_calli (rest := []) C hI hf (mm_bad l N _ _) rfl cqM_bad ⟨rfl, rfl⟩ ⟨Nat.le_of_ble_eq_true rfl, Nat.le_of_ble_eq_true rfl⟩ rfl hl.1 rfl (Nat.le_of_ble_eq_true rfl) dX3_aLine_16 (fun v14 x13 H locs hI hf => ?_)
    exact m_zret C hI hf dX3_aLine_19
/-! readsLaw()Z -/
abbrev rmM_readsLaw : Room := { frames := 52, cells := 0, slots := 0, locals := 1443 }
def fM_readsLaw_b12 (N : Nat) : Nat → MS → Int32 → Option (Int32 × MS)
  | 0, _, _ => none
  | n + 1, x, l1 =>
  if l1 = 0 then
    some (zb l1, x)
  else
    if (gS x 18) = 0 then
      some (zb l1, x)
    else
      b2 (fM_aLine N x) fun v2 x1 =>
      lt (if v2 = 0 then 0 else 1 : Int32) fun v3 =>
      fM_readsLaw_b12 N n (sS x1 13 ((gS x1 13) + v3)) v2
theorem w_fM_readsLaw_b12 {N : Nat} {r : Int32} {xr : MS} (C : mC w A p s m args meth c cX3_readsLaw 2 (some .boolean)) : ∀ (n : Nat) (x : MS) (l1 : Int32) (H : Heap) (locs : List Loc) (ls : Array Slot), mI w A x s.heap H locs → lv_has ls 2 [(0, .ref (w.2.2.1 28)), (1, .int l1)] → fM_readsLaw_b12 N n x l1 = some (r, xr) → W p l e rmM_readsLaw s m args below meth c H locs 0 0 (MQ below (mQ w A (some (.int r)) xr) args s 0 0 A) (F0 m 12 ls []) := by
  have hx := C.1.1
  have hb := C.1.2.1
  have hown := C.1.2.2.2.1
  have hts := C.1.2.2.2.2.1
  have hE := C.2.2
  intro n
  induction n with
  | zero => intro x l1 H locs ls hI hl hf; rw [fM_readsLaw_b12] at hf; cases hf
  | succ n ih =>
  intro x l1 H locs ls hI hl hf
  rw [fM_readsLaw_b12] at hf
  refine lv_iload_n hx hb dX3_readsLaw_12 rfl (lv_at hl 1 rfl) ?_
  refine b_ifeq (tgt := 49) hx hb hf dX3_readsLaw_13 (by decide) (fun hf => ?_) (fun hf => ?_)
  · refine lv_iload_n hx hb dX3_readsLaw_49 rfl (lv_at hl 1 rfl) ?_
    exact m_zret C hI hf dX3_readsLaw_50
  · refine lv_aload_n hx hb dX3_readsLaw_16 rfl (lv_at hl 0 rfl) ?_
    refine mg18 C hI dX3_readsLaw_17 ?_
    refine b_ifeq (tgt := 49) hx hb hf dX3_readsLaw_20 (by decide) (fun hf => ?_) (fun hf => ?_)
    · refine lv_iload_n hx hb dX3_readsLaw_49 rfl (lv_at hl 1 rfl) ?_
      exact m_zret C hI hf dX3_readsLaw_50
    · refine lv_aload_n hx hb dX3_readsLaw_23 rfl (lv_at hl 0 rfl) ?_
      refine m_calli (rest := []) C hI hf (mm_aLine l N _) rfl cqM_aLine ⟨rfl, rfl⟩ ⟨Nat.le_of_ble_eq_true rfl, Nat.le_of_ble_eq_true rfl⟩ rfl hl.1 rfl (Nat.le_of_ble_eq_true rfl) dX3_readsLaw_24 (fun v2 x1 H locs hI hf => ?_)
      refine lv_istore_n (lv' := [(1, .int v2), (0, .ref (w.2.2.1 28))]) hx hb dX3_readsLaw_27 rfl hl (by decide) rfl (fun ls hl => ?_)
      refine lv_aload_n hx hb dX3_readsLaw_28 rfl (lv_at hl 1 rfl) ?_
      refine lv_dup hx hb dX3_readsLaw_29 rfl ?_
      refine mg13 C hI dX3_readsLaw_30 ?_
      refine lv_iload_n hx hb dX3_readsLaw_33 rfl (lv_at hl 0 rfl) ?_
      suffices hJ : ∀ v3 : Int32, (v3 = (if v2 = 0 then 0 else 1 : Int32)) → W p l e rmM_readsLaw s m args below meth c H locs 0 0 (MQ below (mQ w A (some (.int r)) xr) args s 0 0 A) (F0 m 42 ls [.int v3, .int (gS x1 13), .ref (w.2.2.1 28)]) by
        refine lv_if_eq (tgt := 41) hx hb dX3_readsLaw_34 (by decide) (fun hc => ?_) (fun hc => ?_)
        · refine lv_iconst (v := 0) hx hb dX3_readsLaw_41 (by decide) ?_
          exact hJ _ (if_pos hc).symm
        · refine lv_iconst (v := 1) hx hb dX3_readsLaw_37 (by decide) ?_
          refine lv_goto (tgt := 42) hx hb dX3_readsLaw_38 (by decide) ?_
          exact hJ _ (if_neg hc).symm
      intro v3 hv
      have hf := lt_of hv hf
      refine lv_iadd hx hb dX3_readsLaw_42 ?_
      refine mp13 C hI dX3_readsLaw_43 (fun H locs hI => ?_)
      refine lv_goto (tgt := 12) hx hb dX3_readsLaw_46 (by decide) ?_
      exact ih (sS x1 13 ((gS x1 13) + v3)) v2 _ _ _ hI (lv_sub hl [1, 0] rfl) hf
def fM_readsLaw (N : Nat) (x : MS) : Option (Int32 × MS) :=
  fM_readsLaw_b12 N N (sS (sS x 13 0) 14 0) 1
theorem mm_readsLaw (l : Launch) (N : Nat) {w : mO} {A : Nat → Prop} : ∀ (x : MS) (r : Int32) (xr : MS), fM_readsLaw N x  = some (r, xr) → mMet l yX3_readsLaw (ws_ yX3_readsLaw cX3_readsLaw 2 (some .boolean)) rmM_readsLaw [.ref (w.2.2.1 28)] w A x (some (.int r)) xr := by
  intro x  r xr hf
  refine m_start (cc := cX3_readsLaw) (by decide +kernel) rfl (Nat.le_of_ble_eq_true rfl) rfl ?_
  intro p e s m args below meth c ls H locs C hI hl
  have hx := C.1.1
  have hb := C.1.2.1
  have hown := C.1.2.2.2.1
  have hts := C.1.2.2.2.2.1
  have hE := C.2.2
  rw [fM_readsLaw] at hf
  refine lv_aload_n hx hb dX3_readsLaw_0 rfl (lv_at hl 0 rfl) ?_
  refine lv_iconst (v := 0) hx hb dX3_readsLaw_1 (by decide) ?_
  refine mp13 C hI dX3_readsLaw_2 (fun H locs hI => ?_)
  refine lv_aload_n hx hb dX3_readsLaw_5 rfl (lv_at hl 0 rfl) ?_
  refine lv_iconst (v := 0) hx hb dX3_readsLaw_6 (by decide) ?_
  refine mp14 C hI dX3_readsLaw_7 (fun H locs hI => ?_)
  refine lv_iconst (v := 1) hx hb dX3_readsLaw_10 (by decide) ?_
  refine lv_istore_n (lv' := [(1, .int 1), (0, .ref (w.2.2.1 28))]) hx hb dX3_readsLaw_11 rfl hl (by decide) rfl (fun ls hl => ?_)
  exact w_fM_readsLaw_b12 C N (sS (sS x 13 0) 14 0) 1 _ _ _ hI (lv_sub hl [1, 0] rfl) hf
/-! number(III)Z -/
abbrev rmM_number : Room := { frames := 9, cells := 0, slots := 0, locals := 190 }
def fM_number (N : Nat) (x : MS) (l1 : Int32) (l2 : Int32) (l3 : Int32) : Option (Int32 × MS) :=
  if (gS x 18) = 2 then
    (fM_isIn N (gS x 20) l2 l3).bind fun v1 =>
    if v1 = 0 then
      b2 (fM_bad N x 2) fun v5 x4 =>
      some (zb v5, x4)
    else
      (wr x 8 80 l1 (gS x 20)).bind fun x2 =>
      (fM_next0 N x2).bind fun x3 =>
      some (1, x3)
  else
    b2 (fM_bad N x 1) fun v7 x6 =>
    some (zb v7, x6)
theorem mm_number (l : Launch) (N : Nat) {w : mO} {A : Nat → Prop} : ∀ (x : MS) (l1 : Int32) (l2 : Int32) (l3 : Int32) (r : Int32) (xr : MS), fM_number N x l1 l2 l3 = some (r, xr) → mMet l yX3_number (ws_ yX3_number cX3_number 4 (some .boolean)) rmM_number [.ref (w.2.2.1 28), .int l1, .int l2, .int l3] w A x (some (.int r)) xr := by
  intro x l1 l2 l3 r xr hf
  refine m_start (cc := cX3_number) (by decide +kernel) rfl (Nat.le_of_ble_eq_true rfl) rfl ?_
  intro p e s m args below meth c ls H locs C hI hl
  have hx := C.1.1
  have hb := C.1.2.1
  have hown := C.1.2.2.2.1
  have hts := C.1.2.2.2.2.1
  have hE := C.2.2
  rw [fM_number] at hf
  refine lv_aload_n hx hb dX3_number_0 rfl (lv_at hl 0 rfl) ?_
  refine mg18 C hI dX3_number_1 ?_
  refine lv_iconst (v := 2) hx hb dX3_number_4 (by decide) ?_
  refine b_iceq (tgt := 14) hx hb hf dX3_number_5 (by decide) (fun hf => ?_) (fun hf => ?_)
  · refine lv_aload_n hx hb dX3_number_14 rfl (lv_at hl 0 rfl) ?_
    refine mg20 C hI dX3_number_15 ?_
    refine lv_iload_n hx hb dX3_number_18 rfl (lv_at hl 2 rfl) ?_
    refine lv_iload_n hx hb dX3_number_19 rfl (lv_at hl 3 rfl) ?_
    refine g_calliS (rest := []) C.1 hf (smM_isIn l N _ _ _) cqM_M_isIn ⟨rfl, rfl⟩ ⟨Nat.le_of_ble_eq_true rfl, Nat.le_of_ble_eq_true rfl⟩ rfl hl.1 rfl (Nat.le_of_ble_eq_true rfl) ⟨Nat.zero_le _, Nat.zero_le _⟩ dX3_number_20 (fun v1 hf => ?_)
    refine b_ifne (tgt := 32) hx hb hf dX3_number_23 (by decide) (fun hf => ?_) (fun hf => ?_)
    · refine lv_aload_n hx hb dX3_number_32 rfl (lv_at hl 0 rfl) ?_
      refine mg8 C hI dX3_number_33 ?_
      refine lv_iload_n hx hb dX3_number_36 rfl (lv_at hl 1 rfl) ?_
      refine lv_aload_n hx hb dX3_number_37 rfl (lv_at hl 0 rfl) ?_
      refine mg20 C hI dX3_number_38 ?_
      refine ms8 C hI hf dX3_number_41 (fun x2 H locs hI hf => ?_)
      refine lv_aload_n hx hb dX3_number_42 rfl (lv_at hl 0 rfl) ?_
      refine m_callv (rest := []) C hI hf (mm_next0 l N _) rfl cqM_next0 ⟨rfl, rfl⟩ ⟨Nat.le_of_ble_eq_true rfl, Nat.le_of_ble_eq_true rfl⟩ rfl hl.1 rfl (Nat.le_of_ble_eq_true rfl) dX3_number_43 (fun x3 H locs hI hf => ?_)
      refine lv_iconst (v := 1) hx hb dX3_number_46 (by decide) ?_
      exact m_zretc C hI zb_1 hf dX3_number_47
    · refine lv_aload_n hx hb dX3_number_26 rfl (lv_at hl 0 rfl) ?_
      refine lv_iconst (v := 2) hx hb dX3_number_27 (by decide) ?_
      refine m_calli (rest := []) C hI hf (mm_bad l N _ _) rfl cqM_bad ⟨rfl, rfl⟩ ⟨Nat.le_of_ble_eq_true rfl, Nat.le_of_ble_eq_true rfl⟩ rfl hl.1 rfl (Nat.le_of_ble_eq_true rfl) dX3_number_28 (fun v5 x4 H locs hI hf => ?_)
      exact m_zret C hI hf dX3_number_31
  · refine lv_aload_n hx hb dX3_number_8 rfl (lv_at hl 0 rfl) ?_
    refine lv_iconst (v := 1) hx hb dX3_number_9 (by decide) ?_
    refine m_calli (rest := []) C hI hf (mm_bad l N _ _) rfl cqM_bad ⟨rfl, rfl⟩ ⟨Nat.le_of_ble_eq_true rfl, Nat.le_of_ble_eq_true rfl⟩ rfl hl.1 rfl (Nat.le_of_ble_eq_true rfl) dX3_number_10 (fun v7 x6 H locs hI hf => ?_)
    exact m_zret C hI hf dX3_number_13
/-! aLink(I)Z -/
abbrev rmM_aLink : Room := { frames := 10, cells := 0, slots := 0, locals := 213 }
def fM_aLink (N : Nat) (x : MS) (l1 : Int32) : Option (Int32 × MS) :=
  b2 (fM_number N x l1 0 ((gA x 0 88) - 1)) fun v2 x1 =>
  some (zb v2, x1)
theorem mm_aLink (l : Launch) (N : Nat) {w : mO} {A : Nat → Prop} : ∀ (x : MS) (l1 : Int32) (r : Int32) (xr : MS), fM_aLink N x l1 = some (r, xr) → mMet l yX3_aLink (ws_ yX3_aLink cX3_aLink 2 (some .boolean)) rmM_aLink [.ref (w.2.2.1 28), .int l1] w A x (some (.int r)) xr := by
  intro x l1 r xr hf
  refine m_start (cc := cX3_aLink) (by decide +kernel) rfl (Nat.le_of_ble_eq_true rfl) rfl ?_
  intro p e s m args below meth c ls H locs C hI hl
  have hx := C.1.1
  have hb := C.1.2.1
  have hown := C.1.2.2.2.1
  have hts := C.1.2.2.2.2.1
  have hE := C.2.2
  rw [fM_aLink] at hf
  refine lv_aload_n hx hb dX3_aLink_0 rfl (lv_at hl 0 rfl) ?_
  refine lv_iload_n hx hb dX3_aLink_1 rfl (lv_at hl 1 rfl) ?_
  refine lv_iconst (v := 0) hx hb dX3_aLink_2 (by decide) ?_
  refine lv_aload_n hx hb dX3_aLink_3 rfl (lv_at hl 0 rfl) ?_
  refine mg0 C hI dX3_aLink_4 ?_
  refine lv_bipush (v := 88) hx hb dX3_aLink_7 (by decide) ?_
  refine mac0 C hI rc1725_88 dX3_aLink_9 ?_
  refine lv_iconst (v := 1) hx hb dX3_aLink_10 (by decide) ?_
  refine lv_isub hx hb dX3_aLink_11 ?_
  refine m_calli (rest := []) C hI hf (mm_number l N _ _ _ _) rfl cqM_number ⟨rfl, rfl⟩ ⟨Nat.le_of_ble_eq_true rfl, Nat.le_of_ble_eq_true rfl⟩ rfl hl.1 rfl (Nat.le_of_ble_eq_true rfl) dX3_aLink_12 (fun v2 x1 H locs hI hf => ?_)
  exact m_zret C hI hf dX3_aLink_15
/-! told(IIII)Z -/
abbrev rmM_told : Room := { frames := 10, cells := 0, slots := 0, locals := 213 }
def fM_told (N : Nat) (x : MS) (l1 : Int32) (l2 : Int32) (l3 : Int32) (l4 : Int32) : Option (Int32 × MS) :=
  b2 (fM_need N x l2) fun v2 x1 =>
  if v2 = 0 then
    some (0, x1)
  else
    b2 (fM_number N x1 l1 l3 l4) fun v4 x3 =>
    if v4 = 0 then
      some (0, x3)
    else
      some (1, x3)
theorem mm_told (l : Launch) (N : Nat) {w : mO} {A : Nat → Prop} : ∀ (x : MS) (l1 : Int32) (l2 : Int32) (l3 : Int32) (l4 : Int32) (r : Int32) (xr : MS), fM_told N x l1 l2 l3 l4 = some (r, xr) → mMet l yX3_told (ws_ yX3_told cX3_told 5 (some .boolean)) rmM_told [.ref (w.2.2.1 28), .int l1, .int l2, .int l3, .int l4] w A x (some (.int r)) xr := by
  intro x l1 l2 l3 l4 r xr hf
  refine m_start (cc := cX3_told) (by decide +kernel) rfl (Nat.le_of_ble_eq_true rfl) rfl ?_
  intro p e s m args below meth c ls H locs C hI hl
  have hx := C.1.1
  have hb := C.1.2.1
  have hown := C.1.2.2.2.1
  have hts := C.1.2.2.2.2.1
  have hE := C.2.2
  rw [fM_told] at hf
  refine lv_aload_n hx hb dX3_told_0 rfl (lv_at hl 0 rfl) ?_
  refine lv_iload_n hx hb dX3_told_1 rfl (lv_at hl 2 rfl) ?_
  refine m_calli (rest := []) C hI hf (mm_need l N _ _) rfl cqM_need ⟨rfl, rfl⟩ ⟨Nat.le_of_ble_eq_true rfl, Nat.le_of_ble_eq_true rfl⟩ rfl hl.1 rfl (Nat.le_of_ble_eq_true rfl) dX3_told_2 (fun v2 x1 H locs hI hf => ?_)
  refine b_ifeq (tgt := 23) hx hb hf dX3_told_5 (by decide) (fun hf => ?_) (fun hf => ?_)
  · refine lv_iconst (v := 0) hx hb dX3_told_23 (by decide) ?_
    exact m_zretc C hI zb_0 hf dX3_told_24
  · refine lv_aload_n hx hb dX3_told_8 rfl (lv_at hl 0 rfl) ?_
    refine lv_iload_n hx hb dX3_told_9 rfl (lv_at hl 1 rfl) ?_
    refine lv_iload_n hx hb dX3_told_10 rfl (lv_at hl 3 rfl) ?_
    refine lv_iload hx hb dX3_told_11 (lv_at hl 4 rfl) ?_
    refine m_calli (rest := []) C hI hf (mm_number l N _ _ _ _) rfl cqM_number ⟨rfl, rfl⟩ ⟨Nat.le_of_ble_eq_true rfl, Nat.le_of_ble_eq_true rfl⟩ rfl hl.1 rfl (Nat.le_of_ble_eq_true rfl) dX3_told_13 (fun v4 x3 H locs hI hf => ?_)
    refine b_ifeq (tgt := 23) hx hb hf dX3_told_16 (by decide) (fun hf => ?_) (fun hf => ?_)
    · refine lv_iconst (v := 0) hx hb dX3_told_23 (by decide) ?_
      exact m_zretc C hI zb_0 hf dX3_told_24
    · refine lv_iconst (v := 1) hx hb dX3_told_19 (by decide) ?_
      refine lv_goto (tgt := 24) hx hb dX3_told_20 (by decide) ?_
      exact m_zretc C hI zb_1 hf dX3_told_24
/-! aPhone()Z -/
abbrev rmM_aPhone : Room := { frames := 11, cells := 0, slots := 0, locals := 237 }
def fM_aPhone (N : Nat) (x : MS) : Option (Int32 × MS) :=
  b2 (fM_need N x 12) fun v2 x1 =>
  if v2 = 0 then
    some (0, x1)
  else
    b2 (fM_aLink N x1 (3 * (gS x 15))) fun v4 x3 =>
    if v4 = 0 then
      some (0, x3)
    else
      b2 (fM_told N x3 ((3 * (gS x 15)) + 1) 13 0 240) fun v6 x5 =>
      if v6 = 0 then
        some (0, x5)
      else
        (rd 80 (gA x5 8) ((3 * (gS x 15)) + 1)).bind fun v7 =>
        b2 (fM_told N x5 ((3 * (gS x 15)) + 2) 14 (v7 + 1) 240) fun v9 x8 =>
        if v9 = 0 then
          some (0, x8)
        else
          some (1, x8)
theorem mm_aPhone (l : Launch) (N : Nat) {w : mO} {A : Nat → Prop} : ∀ (x : MS) (r : Int32) (xr : MS), fM_aPhone N x  = some (r, xr) → mMet l yX3_aPhone (ws_ yX3_aPhone cX3_aPhone 2 (some .boolean)) rmM_aPhone [.ref (w.2.2.1 28)] w A x (some (.int r)) xr := by
  intro x  r xr hf
  refine m_start (cc := cX3_aPhone) (by decide +kernel) rfl (Nat.le_of_ble_eq_true rfl) rfl ?_
  intro p e s m args below meth c ls H locs C hI hl
  have hx := C.1.1
  have hb := C.1.2.1
  have hown := C.1.2.2.2.1
  have hts := C.1.2.2.2.2.1
  have hE := C.2.2
  rw [fM_aPhone] at hf
  refine lv_iconst (v := 3) hx hb dX3_aPhone_0 (by decide) ?_
  refine lv_aload_n hx hb dX3_aPhone_1 rfl (lv_at hl 0 rfl) ?_
  refine mg15 C hI dX3_aPhone_2 ?_
  refine lv_imul hx hb dX3_aPhone_5 ?_
  refine lv_istore_n (lv' := [(1, .int (3 * (gS x 15))), (0, .ref (w.2.2.1 28))]) hx hb dX3_aPhone_6 rfl hl (by decide) rfl (fun ls hl => ?_)
  refine lv_aload_n hx hb dX3_aPhone_7 rfl (lv_at hl 1 rfl) ?_
  refine lv_bipush (v := 12) hx hb dX3_aPhone_8 (by decide) ?_
  refine m_calli (rest := []) C hI hf (mm_need l N _ _) rfl cqM_need ⟨rfl, rfl⟩ ⟨Nat.le_of_ble_eq_true rfl, Nat.le_of_ble_eq_true rfl⟩ rfl hl.1 rfl (Nat.le_of_ble_eq_true rfl) dX3_aPhone_10 (fun v2 x1 H locs hI hf => ?_)
  refine b_ifeq (tgt := 69) hx hb hf dX3_aPhone_13 (by decide) (fun hf => ?_) (fun hf => ?_)
  · refine lv_iconst (v := 0) hx hb dX3_aPhone_69 (by decide) ?_
    exact m_zretc C hI zb_0 hf dX3_aPhone_70
  · refine lv_aload_n hx hb dX3_aPhone_16 rfl (lv_at hl 1 rfl) ?_
    refine lv_iload_n hx hb dX3_aPhone_17 rfl (lv_at hl 0 rfl) ?_
    refine m_calli (rest := []) C hI hf (mm_aLink l N _ _) rfl cqM_aLink ⟨rfl, rfl⟩ ⟨Nat.le_of_ble_eq_true rfl, Nat.le_of_ble_eq_true rfl⟩ rfl hl.1 rfl (Nat.le_of_ble_eq_true rfl) dX3_aPhone_18 (fun v4 x3 H locs hI hf => ?_)
    refine b_ifeq (tgt := 69) hx hb hf dX3_aPhone_21 (by decide) (fun hf => ?_) (fun hf => ?_)
    · refine lv_iconst (v := 0) hx hb dX3_aPhone_69 (by decide) ?_
      exact m_zretc C hI zb_0 hf dX3_aPhone_70
    · refine lv_aload_n hx hb dX3_aPhone_24 rfl (lv_at hl 1 rfl) ?_
      refine lv_iload_n hx hb dX3_aPhone_25 rfl (lv_at hl 0 rfl) ?_
      refine lv_iconst (v := 1) hx hb dX3_aPhone_26 (by decide) ?_
      refine lv_iadd hx hb dX3_aPhone_27 ?_
      refine lv_bipush (v := 13) hx hb dX3_aPhone_28 (by decide) ?_
      refine lv_iconst (v := 0) hx hb dX3_aPhone_30 (by decide) ?_
      refine lv_sipush (v := 240) hx hb dX3_aPhone_31 (by decide) ?_
      refine m_calli (rest := []) C hI hf (mm_told l N _ _ _ _ _) rfl cqM_told ⟨rfl, rfl⟩ ⟨Nat.le_of_ble_eq_true rfl, Nat.le_of_ble_eq_true rfl⟩ rfl hl.1 rfl (Nat.le_of_ble_eq_true rfl) dX3_aPhone_34 (fun v6 x5 H locs hI hf => ?_)
      refine b_ifeq (tgt := 69) hx hb hf dX3_aPhone_37 (by decide) (fun hf => ?_) (fun hf => ?_)
      · refine lv_iconst (v := 0) hx hb dX3_aPhone_69 (by decide) ?_
        exact m_zretc C hI zb_0 hf dX3_aPhone_70
      · refine lv_aload_n hx hb dX3_aPhone_40 rfl (lv_at hl 1 rfl) ?_
        refine lv_iload_n hx hb dX3_aPhone_41 rfl (lv_at hl 0 rfl) ?_
        refine lv_iconst (v := 2) hx hb dX3_aPhone_42 (by decide) ?_
        refine lv_iadd hx hb dX3_aPhone_43 ?_
        refine lv_bipush (v := 14) hx hb dX3_aPhone_44 (by decide) ?_
        refine lv_aload_n hx hb dX3_aPhone_46 rfl (lv_at hl 1 rfl) ?_
        refine mg8 C hI dX3_aPhone_47 ?_
        refine lv_iload_n hx hb dX3_aPhone_50 rfl (lv_at hl 0 rfl) ?_
        refine lv_iconst (v := 1) hx hb dX3_aPhone_51 (by decide) ?_
        refine lv_iadd hx hb dX3_aPhone_52 ?_
        refine ma8 C hI hf dX3_aPhone_53 (fun v7 hf => ?_)
        refine lv_iconst (v := 1) hx hb dX3_aPhone_54 (by decide) ?_
        refine lv_iadd hx hb dX3_aPhone_55 ?_
        refine lv_sipush (v := 240) hx hb dX3_aPhone_56 (by decide) ?_
        refine m_calli (rest := []) C hI hf (mm_told l N _ _ _ _ _) rfl cqM_told ⟨rfl, rfl⟩ ⟨Nat.le_of_ble_eq_true rfl, Nat.le_of_ble_eq_true rfl⟩ rfl hl.1 rfl (Nat.le_of_ble_eq_true rfl) dX3_aPhone_59 (fun v9 x8 H locs hI hf => ?_)
        refine b_ifeq (tgt := 69) hx hb hf dX3_aPhone_62 (by decide) (fun hf => ?_) (fun hf => ?_)
        · refine lv_iconst (v := 0) hx hb dX3_aPhone_69 (by decide) ?_
          exact m_zretc C hI zb_0 hf dX3_aPhone_70
        · refine lv_iconst (v := 1) hx hb dX3_aPhone_65 (by decide) ?_
          refine lv_goto (tgt := 70) hx hb dX3_aPhone_66 (by decide) ?_
          exact m_zretc C hI zb_1 hf dX3_aPhone_70
/-! aPlan()Z -/
abbrev rmM_aPlan : Room := { frames := 11, cells := 0, slots := 0, locals := 237 }
def fM_aPlan_b144 (N : Nat) (x : MS) (l1 : Int32) (l2 : Int32) : Option (Int32 × MS) :=
  if l2 = 9 then
    some (1, x)
  else
    if l2 = 11 then
      some (1, x)
    else
      b2 (fM_number N x (l1 + 4) 1 99) fun v2 x1 =>
      if v2 = 0 then
        some (0, x1)
      else
        some (1, x1)
theorem w_fM_aPlan_b144 {N : Nat} {r : Int32} {xr : MS} (C : mC w A p s m args meth c cX3_aPlan 3 (some .boolean)) : ∀ (x : MS) (l1 : Int32) (l2 : Int32) (H : Heap) (locs : List Loc) (ls : Array Slot), mI w A x s.heap H locs → lv_has ls 3 [(0, .ref (w.2.2.1 28)), (1, .int l1), (2, .int l2)] → fM_aPlan_b144 N x l1 l2 = some (r, xr) → W p l e rmM_aPlan s m args below meth c H locs 0 0 (MQ below (mQ w A (some (.int r)) xr) args s 0 0 A) (F0 m 144 ls []) := by
  have hx := C.1.1
  have hb := C.1.2.1
  have hown := C.1.2.2.2.1
  have hts := C.1.2.2.2.2.1
  have hE := C.2.2
  intro x l1 l2 H locs ls hI hl hf
  rw [fM_aPlan_b144] at hf
  refine lv_iload_n hx hb dX3_aPlan_144 rfl (lv_at hl 2 rfl) ?_
  refine lv_bipush (v := 9) hx hb dX3_aPlan_145 (by decide) ?_
  refine b_iceq (tgt := 169) hx hb hf dX3_aPlan_147 (by decide) (fun hf => ?_) (fun hf => ?_)
  · refine lv_iconst (v := 1) hx hb dX3_aPlan_169 (by decide) ?_
    refine lv_goto (tgt := 174) hx hb dX3_aPlan_170 (by decide) ?_
    exact m_zretc C hI zb_1 hf dX3_aPlan_174
  · refine lv_iload_n hx hb dX3_aPlan_150 rfl (lv_at hl 2 rfl) ?_
    refine lv_bipush (v := 11) hx hb dX3_aPlan_151 (by decide) ?_
    refine b_iceq (tgt := 169) hx hb hf dX3_aPlan_153 (by decide) (fun hf => ?_) (fun hf => ?_)
    · refine lv_iconst (v := 1) hx hb dX3_aPlan_169 (by decide) ?_
      refine lv_goto (tgt := 174) hx hb dX3_aPlan_170 (by decide) ?_
      exact m_zretc C hI zb_1 hf dX3_aPlan_174
    · refine lv_aload_n hx hb dX3_aPlan_156 rfl (lv_at hl 0 rfl) ?_
      refine lv_iload_n hx hb dX3_aPlan_157 rfl (lv_at hl 1 rfl) ?_
      refine lv_iconst (v := 4) hx hb dX3_aPlan_158 (by decide) ?_
      refine lv_iadd hx hb dX3_aPlan_159 ?_
      refine lv_iconst (v := 1) hx hb dX3_aPlan_160 (by decide) ?_
      refine lv_bipush (v := 99) hx hb dX3_aPlan_161 (by decide) ?_
      refine m_calli (rest := []) C hI hf (mm_number l N _ _ _ _) rfl cqM_number ⟨rfl, rfl⟩ ⟨Nat.le_of_ble_eq_true rfl, Nat.le_of_ble_eq_true rfl⟩ rfl hl.1 rfl (Nat.le_of_ble_eq_true rfl) dX3_aPlan_163 (fun v2 x1 H locs hI hf => ?_)
      refine b_ifeq (tgt := 173) hx hb hf dX3_aPlan_166 (by decide) (fun hf => ?_) (fun hf => ?_)
      · refine lv_iconst (v := 0) hx hb dX3_aPlan_173 (by decide) ?_
        exact m_zretc C hI zb_0 hf dX3_aPlan_174
      · refine lv_iconst (v := 1) hx hb dX3_aPlan_169 (by decide) ?_
        refine lv_goto (tgt := 174) hx hb dX3_aPlan_170 (by decide) ?_
        exact m_zretc C hI zb_1 hf dX3_aPlan_174
def fM_aPlan_b126 (N : Nat) (x : MS) (l1 : Int32) (l2 : Int32) : Option (Int32 × MS) :=
  if l2 = 10 then
    b2 (fM_aLink N x (l1 + 3)) fun v2 x1 =>
    if v2 = 0 then
      some (0, x1)
    else
      fM_aPlan_b144 N x1 l1 l2
  else
    fM_aPlan_b144 N x l1 l2
theorem w_fM_aPlan_b126 {N : Nat} {r : Int32} {xr : MS} (C : mC w A p s m args meth c cX3_aPlan 3 (some .boolean)) : ∀ (x : MS) (l1 : Int32) (l2 : Int32) (H : Heap) (locs : List Loc) (ls : Array Slot), mI w A x s.heap H locs → lv_has ls 3 [(0, .ref (w.2.2.1 28)), (1, .int l1), (2, .int l2)] → fM_aPlan_b126 N x l1 l2 = some (r, xr) → W p l e rmM_aPlan s m args below meth c H locs 0 0 (MQ below (mQ w A (some (.int r)) xr) args s 0 0 A) (F0 m 126 ls []) := by
  have hx := C.1.1
  have hb := C.1.2.1
  have hown := C.1.2.2.2.1
  have hts := C.1.2.2.2.2.1
  have hE := C.2.2
  intro x l1 l2 H locs ls hI hl hf
  rw [fM_aPlan_b126] at hf
  refine lv_iload_n hx hb dX3_aPlan_126 rfl (lv_at hl 2 rfl) ?_
  refine lv_bipush (v := 10) hx hb dX3_aPlan_127 (by decide) ?_
  refine b_icne (tgt := 144) hx hb hf dX3_aPlan_129 (by decide) (fun hf => ?_) (fun hf => ?_)
  · exact w_fM_aPlan_b144 C x l1 l2 _ _ _ hI (lv_sub hl [0, 1, 2] rfl) hf
  · refine lv_aload_n hx hb dX3_aPlan_132 rfl (lv_at hl 0 rfl) ?_
    refine lv_iload_n hx hb dX3_aPlan_133 rfl (lv_at hl 1 rfl) ?_
    refine lv_iconst (v := 3) hx hb dX3_aPlan_134 (by decide) ?_
    refine lv_iadd hx hb dX3_aPlan_135 ?_
    refine m_calli (rest := []) C hI hf (mm_aLink l N _ _) rfl cqM_aLink ⟨rfl, rfl⟩ ⟨Nat.le_of_ble_eq_true rfl, Nat.le_of_ble_eq_true rfl⟩ rfl hl.1 rfl (Nat.le_of_ble_eq_true rfl) dX3_aPlan_136 (fun v2 x1 H locs hI hf => ?_)
    refine b_ifne (tgt := 144) hx hb hf dX3_aPlan_139 (by decide) (fun hf => ?_) (fun hf => ?_)
    · exact w_fM_aPlan_b144 C x1 l1 l2 _ _ _ hI (lv_sub hl [0, 1, 2] rfl) hf
    · refine lv_iconst (v := 0) hx hb dX3_aPlan_142 (by decide) ?_
      exact m_zretc C hI zb_0 hf dX3_aPlan_143
def fM_aPlan (N : Nat) (x : MS) : Option (Int32 × MS) :=
  b2 (fM_told N x (5 * (gS x 15)) 7 0 999) fun v2 x1 =>
  if v2 = 0 then
    some (0, x1)
  else
    (fM_isIn N (gS x1 18) 8 11).bind fun v3 =>
    if v3 = 0 then
      b2 (fM_bad N x1 1) fun v14 x13 =>
      some (zb v14, x13)
    else
      (wr x1 8 80 ((5 * (gS x 15)) + 1) (gS x1 18)).bind fun x4 =>
      (wr x4 8 80 ((5 * (gS x 15)) + 3) 0).bind fun x5 =>
      (wr x5 8 80 ((5 * (gS x 15)) + 4) 0).bind fun x6 =>
      (fM_next0 N x6).bind fun x7 =>
      b2 (fM_aLink N x7 ((5 * (gS x 15)) + 2)) fun v9 x8 =>
      if v9 = 0 then
        some (0, x8)
      else
        if (gS x1 18) = 10 then
          if (gS x8 18) = 2 then
            (rd 80 (gA x8 8) ((5 * (gS x 15)) + 2)).bind fun v10 =>
            if (gS x8 20) = v10 then
              b2 (fM_bad N x8 2) fun v12 x11 =>
              some (zb v12, x11)
            else
              fM_aPlan_b126 N x8 (5 * (gS x 15)) (gS x1 18)
          else
            fM_aPlan_b126 N x8 (5 * (gS x 15)) (gS x1 18)
        else
          fM_aPlan_b126 N x8 (5 * (gS x 15)) (gS x1 18)
theorem mm_aPlan (l : Launch) (N : Nat) {w : mO} {A : Nat → Prop} : ∀ (x : MS) (r : Int32) (xr : MS), fM_aPlan N x  = some (r, xr) → mMet l yX3_aPlan (ws_ yX3_aPlan cX3_aPlan 3 (some .boolean)) rmM_aPlan [.ref (w.2.2.1 28)] w A x (some (.int r)) xr := by
  intro x  r xr hf
  refine m_start (cc := cX3_aPlan) (by decide +kernel) rfl (Nat.le_of_ble_eq_true rfl) rfl ?_
  intro p e s m args below meth c ls H locs C hI hl
  have hx := C.1.1
  have hb := C.1.2.1
  have hown := C.1.2.2.2.1
  have hts := C.1.2.2.2.2.1
  have hE := C.2.2
  rw [fM_aPlan] at hf
  refine lv_iconst (v := 5) hx hb dX3_aPlan_0 (by decide) ?_
  refine lv_aload_n hx hb dX3_aPlan_1 rfl (lv_at hl 0 rfl) ?_
  refine mg15 C hI dX3_aPlan_2 ?_
  refine lv_imul hx hb dX3_aPlan_5 ?_
  refine lv_istore_n (lv' := [(1, .int (5 * (gS x 15))), (0, .ref (w.2.2.1 28))]) hx hb dX3_aPlan_6 rfl hl (by decide) rfl (fun ls hl => ?_)
  refine lv_aload_n hx hb dX3_aPlan_7 rfl (lv_at hl 1 rfl) ?_
  refine lv_iload_n hx hb dX3_aPlan_8 rfl (lv_at hl 0 rfl) ?_
  refine lv_bipush (v := 7) hx hb dX3_aPlan_9 (by decide) ?_
  refine lv_iconst (v := 0) hx hb dX3_aPlan_11 (by decide) ?_
  refine lv_sipush (v := 999) hx hb dX3_aPlan_12 (by decide) ?_
  refine m_calli (rest := []) C hI hf (mm_told l N _ _ _ _ _) rfl cqM_told ⟨rfl, rfl⟩ ⟨Nat.le_of_ble_eq_true rfl, Nat.le_of_ble_eq_true rfl⟩ rfl hl.1 rfl (Nat.le_of_ble_eq_true rfl) dX3_aPlan_15 (fun v2 x1 H locs hI hf => ?_)
  refine b_ifne (tgt := 23) hx hb hf dX3_aPlan_18 (by decide) (fun hf => ?_) (fun hf => ?_)
  · refine lv_aload_n hx hb dX3_aPlan_23 rfl (lv_at hl 1 rfl) ?_
    refine mg18 C hI dX3_aPlan_24 ?_
    refine lv_bipush (v := 8) hx hb dX3_aPlan_27 (by decide) ?_
    refine lv_bipush (v := 11) hx hb dX3_aPlan_29 (by decide) ?_
    refine g_calliS (rest := []) C.1 hf (smM_isIn l N _ _ _) cqM_M_isIn ⟨rfl, rfl⟩ ⟨Nat.le_of_ble_eq_true rfl, Nat.le_of_ble_eq_true rfl⟩ rfl hl.1 rfl (Nat.le_of_ble_eq_true rfl) ⟨Nat.zero_le _, Nat.zero_le _⟩ dX3_aPlan_31 (fun v3 hf => ?_)
    refine b_ifne (tgt := 43) hx hb hf dX3_aPlan_34 (by decide) (fun hf => ?_) (fun hf => ?_)
    · refine lv_aload_n hx hb dX3_aPlan_43 rfl (lv_at hl 1 rfl) ?_
      refine mg18 C hI dX3_aPlan_44 ?_
      refine lv_istore_n (lv' := [(2, .int (gS x1 18)), (1, .int (5 * (gS x 15))), (0, .ref (w.2.2.1 28))]) hx hb dX3_aPlan_47 rfl hl (by decide) rfl (fun ls hl => ?_)
      refine lv_aload_n hx hb dX3_aPlan_48 rfl (lv_at hl 2 rfl) ?_
      refine mg8 C hI dX3_aPlan_49 ?_
      refine lv_iload_n hx hb dX3_aPlan_52 rfl (lv_at hl 1 rfl) ?_
      refine lv_iconst (v := 1) hx hb dX3_aPlan_53 (by decide) ?_
      refine lv_iadd hx hb dX3_aPlan_54 ?_
      refine lv_iload_n hx hb dX3_aPlan_55 rfl (lv_at hl 0 rfl) ?_
      refine ms8 C hI hf dX3_aPlan_56 (fun x4 H locs hI hf => ?_)
      refine lv_aload_n hx hb dX3_aPlan_57 rfl (lv_at hl 2 rfl) ?_
      refine mg8 C hI dX3_aPlan_58 ?_
      refine lv_iload_n hx hb dX3_aPlan_61 rfl (lv_at hl 1 rfl) ?_
      refine lv_iconst (v := 3) hx hb dX3_aPlan_62 (by decide) ?_
      refine lv_iadd hx hb dX3_aPlan_63 ?_
      refine lv_iconst (v := 0) hx hb dX3_aPlan_64 (by decide) ?_
      refine ms8 C hI hf dX3_aPlan_65 (fun x5 H locs hI hf => ?_)
      refine lv_aload_n hx hb dX3_aPlan_66 rfl (lv_at hl 2 rfl) ?_
      refine mg8 C hI dX3_aPlan_67 ?_
      refine lv_iload_n hx hb dX3_aPlan_70 rfl (lv_at hl 1 rfl) ?_
      refine lv_iconst (v := 4) hx hb dX3_aPlan_71 (by decide) ?_
      refine lv_iadd hx hb dX3_aPlan_72 ?_
      refine lv_iconst (v := 0) hx hb dX3_aPlan_73 (by decide) ?_
      refine ms8 C hI hf dX3_aPlan_74 (fun x6 H locs hI hf => ?_)
      refine lv_aload_n hx hb dX3_aPlan_75 rfl (lv_at hl 2 rfl) ?_
      refine m_callv (rest := []) C hI hf (mm_next0 l N _) rfl cqM_next0 ⟨rfl, rfl⟩ ⟨Nat.le_of_ble_eq_true rfl, Nat.le_of_ble_eq_true rfl⟩ rfl hl.1 rfl (Nat.le_of_ble_eq_true rfl) dX3_aPlan_76 (fun x7 H locs hI hf => ?_)
      refine lv_aload_n hx hb dX3_aPlan_79 rfl (lv_at hl 2 rfl) ?_
      refine lv_iload_n hx hb dX3_aPlan_80 rfl (lv_at hl 1 rfl) ?_
      refine lv_iconst (v := 2) hx hb dX3_aPlan_81 (by decide) ?_
      refine lv_iadd hx hb dX3_aPlan_82 ?_
      refine m_calli (rest := []) C hI hf (mm_aLink l N _ _) rfl cqM_aLink ⟨rfl, rfl⟩ ⟨Nat.le_of_ble_eq_true rfl, Nat.le_of_ble_eq_true rfl⟩ rfl hl.1 rfl (Nat.le_of_ble_eq_true rfl) dX3_aPlan_83 (fun v9 x8 H locs hI hf => ?_)
      refine b_ifne (tgt := 91) hx hb hf dX3_aPlan_86 (by decide) (fun hf => ?_) (fun hf => ?_)
      · refine lv_iload_n hx hb dX3_aPlan_91 rfl (lv_at hl 0 rfl) ?_
        refine lv_bipush (v := 10) hx hb dX3_aPlan_92 (by decide) ?_
        refine b_icne (tgt := 126) hx hb hf dX3_aPlan_94 (by decide) (fun hf => ?_) (fun hf => ?_)
        · exact w_fM_aPlan_b126 C x8 (5 * (gS x 15)) (gS x1 18) _ _ _ hI (lv_sub hl [2, 1, 0] rfl) hf
        · refine lv_aload_n hx hb dX3_aPlan_97 rfl (lv_at hl 2 rfl) ?_
          refine mg18 C hI dX3_aPlan_98 ?_
          refine lv_iconst (v := 2) hx hb dX3_aPlan_101 (by decide) ?_
          refine b_icne (tgt := 126) hx hb hf dX3_aPlan_102 (by decide) (fun hf => ?_) (fun hf => ?_)
          · exact w_fM_aPlan_b126 C x8 (5 * (gS x 15)) (gS x1 18) _ _ _ hI (lv_sub hl [2, 1, 0] rfl) hf
          · refine lv_aload_n hx hb dX3_aPlan_105 rfl (lv_at hl 2 rfl) ?_
            refine mg20 C hI dX3_aPlan_106 ?_
            refine lv_aload_n hx hb dX3_aPlan_109 rfl (lv_at hl 2 rfl) ?_
            refine mg8 C hI dX3_aPlan_110 ?_
            refine lv_iload_n hx hb dX3_aPlan_113 rfl (lv_at hl 1 rfl) ?_
            refine lv_iconst (v := 2) hx hb dX3_aPlan_114 (by decide) ?_
            refine lv_iadd hx hb dX3_aPlan_115 ?_
            refine ma8 C hI hf dX3_aPlan_116 (fun v10 hf => ?_)
            refine b_icne (tgt := 126) hx hb hf dX3_aPlan_117 (by decide) (fun hf => ?_) (fun hf => ?_)
            · exact w_fM_aPlan_b126 C x8 (5 * (gS x 15)) (gS x1 18) _ _ _ hI (lv_sub hl [2, 1, 0] rfl) hf
            · refine lv_aload_n hx hb dX3_aPlan_120 rfl (lv_at hl 2 rfl) ?_
              refine lv_iconst (v := 2) hx hb dX3_aPlan_121 (by decide) ?_
              refine m_calli (rest := []) C hI hf (mm_bad l N _ _) rfl cqM_bad ⟨rfl, rfl⟩ ⟨Nat.le_of_ble_eq_true rfl, Nat.le_of_ble_eq_true rfl⟩ rfl hl.1 rfl (Nat.le_of_ble_eq_true rfl) dX3_aPlan_122 (fun v12 x11 H locs hI hf => ?_)
              exact m_zret C hI hf dX3_aPlan_125
      · refine lv_iconst (v := 0) hx hb dX3_aPlan_89 (by decide) ?_
        exact m_zretc C hI zb_0 hf dX3_aPlan_90
    · refine lv_aload_n hx hb dX3_aPlan_37 rfl (lv_at hl 1 rfl) ?_
      refine lv_iconst (v := 1) hx hb dX3_aPlan_38 (by decide) ?_
      refine m_calli (rest := []) C hI hf (mm_bad l N _ _) rfl cqM_bad ⟨rfl, rfl⟩ ⟨Nat.le_of_ble_eq_true rfl, Nat.le_of_ble_eq_true rfl⟩ rfl hl.1 rfl (Nat.le_of_ble_eq_true rfl) dX3_aPlan_39 (fun v14 x13 H locs hI hf => ?_)
      exact m_zret C hI hf dX3_aPlan_42
  · refine lv_iconst (v := 0) hx hb dX3_aPlan_21 (by decide) ?_
    exact m_zretc C hI zb_0 hf dX3_aPlan_22
