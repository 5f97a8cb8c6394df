set_option maxRecDepth 100000
variable {p : Program} {l : Launch} {e : Env} {R : Room} {s : State} {m : MethodId} {args : Array Value} {below : List Frame} {meth : Method} {c : Code} {H : Heap} {locs : List Loc} {Q : State → Prop}
variable {w : mO} {A : Nat → Prop}
/-! signsNext(III)I -/
abbrev rmM_signsNext : Room := { frames := 2, cells := 0, slots := 0, locals := 47 }
def fM_signsNext_b16 (N : Nat) : Nat → MS → Int32 → Int32 → Int32 → Int32 → Int32 → Option (Int32 × MS)
  | 0, _, _, _, _, _, _ => none
  | n + 1, x, l1, l2, l3, l4, l5 =>
  if (gA x 0 88) ≤ l5 then
    some ((-1), x)
  else
    (rd 1725 (gA x 0) (105 + (2 * l5))).bind fun v1 =>
    (fM_greater N l1 v1).bind fun v2 =>
    if ((l2 >>> (l5 &&& 31)) &&& 1) = 1 then
      fM_signsNext_b16 N n x l1 l2 l3 l4 (l5 + 1)
    else
      (rd 1725 (gA x 0) ((105 + (2 * l5)) + 1)).bind fun v3 =>
      if (v2 + 10) ≤ v3 then
        (fM_laysSigns N x (v2 + 10) (l2 ||| (1 <<< (l5 &&& 31)))).bind fun x4 =>
        (rd 4096 (gA x4 27) l4).bind fun v5 =>
        if v5 = l3 then
          some (l5, x4)
        else
          fM_signsNext_b16 N n x4 l1 l2 l3 l4 (l5 + 1)
      else
        fM_signsNext_b16 N n x l1 l2 l3 l4 (l5 + 1)
theorem w_fM_signsNext_b16 {N : Nat} {r : Int32} {xr : MS} (C : mC w A p s m args meth c cX3_signsNext 7 (some .int)) : ∀ (n : Nat) (x : MS) (l1 : Int32) (l2 : Int32) (l3 : Int32) (l4 : Int32) (l5 : Int32) (H : Heap) (locs : List Loc) (ls : Array Slot), mI w A x s.heap H locs → lv_has ls 7 [(0, .ref (w.2.2.1 28)), (1, .int l1), (2, .int l2), (3, .int l3), (4, .int l4), (5, .int l5)] → fM_signsNext_b16 N n x l1 l2 l3 l4 l5 = some (r, xr) → W p l e rmM_signsNext s m args below meth c H locs 0 0 (MQ below (mQ w A (some (.int r)) xr) args s 0 0 A) (F0 m 16 ls []) := by
  have hx := C.1.1
  have hb := C.1.2.1
  have hown := C.1.2.2.2.1
  have hts := C.1.2.2.2.2.1
  have hE := C.2.2
  intro n
  induction n with
  | zero => intro x l1 l2 l3 l4 l5 H locs ls hI hl hf; rw [fM_signsNext_b16] at hf; cases hf
  | succ n ih =>
  intro x l1 l2 l3 l4 l5 H locs ls hI hl hf
  rw [fM_signsNext_b16] at hf
  refine lv_iload hx hb dX3_signsNext_16 (lv_at hl 5 rfl) ?_
  refine lv_aload_n hx hb dX3_signsNext_18 rfl (lv_at hl 0 rfl) ?_
  refine mg0 C hI dX3_signsNext_19 ?_
  refine lv_bipush (v := 88) hx hb dX3_signsNext_22 (by decide) ?_
  refine mac0 C hI rc1725_88 dX3_signsNext_24 ?_
  refine b_icge (tgt := 113) hx hb hf dX3_signsNext_25 (by decide) (fun hf => ?_) (fun hf => ?_)
  · refine lv_iconst (v := (-1)) hx hb dX3_signsNext_113 (by decide) ?_
    exact m_iret C hI hf dX3_signsNext_114
  · refine lv_iload_n hx hb dX3_signsNext_28 rfl (lv_at hl 1 rfl) ?_
    refine lv_aload_n hx hb dX3_signsNext_29 rfl (lv_at hl 0 rfl) ?_
    refine mg0 C hI dX3_signsNext_30 ?_
    refine lv_bipush (v := 105) hx hb dX3_signsNext_33 (by decide) ?_
    refine lv_iconst (v := 2) hx hb dX3_signsNext_35 (by decide) ?_
    refine lv_iload hx hb dX3_signsNext_36 (lv_at hl 5 rfl) ?_
    refine lv_imul hx hb dX3_signsNext_38 ?_
    refine lv_iadd hx hb dX3_signsNext_39 ?_
    refine ma0 C hI hf dX3_signsNext_40 (fun v1 hf => ?_)
    refine g_calliS (rest := []) C.1 hf (smM_greater l N _ _) cqM_M_greater ⟨rfl, rfl⟩ ⟨Nat.le_of_ble_eq_true rfl, Nat.le_of_ble_eq_true rfl⟩ rfl hl.1 rfl (Nat.le_of_ble_eq_true rfl) ⟨Nat.zero_le _, Nat.zero_le _⟩ dX3_signsNext_41 (fun v2 hf => ?_)
    refine lv_bipush (v := 10) hx hb dX3_signsNext_44 (by decide) ?_
    refine lv_iadd hx hb dX3_signsNext_46 ?_
    refine lv_istore (lv' := [(6, .int (v2 + 10)), (0, .ref (w.2.2.1 28)), (1, .int l1), (2, .int l2), (3, .int l3), (4, .int l4), (5, .int l5)]) hx hb dX3_signsNext_47 hl (by decide) rfl (fun ls hl => ?_)
    refine lv_iload_n hx hb dX3_signsNext_49 rfl (lv_at hl 3 rfl) ?_
    refine lv_iload hx hb dX3_signsNext_50 (lv_at hl 6 rfl) ?_
    refine lv_ishr hx hb dX3_signsNext_52 ?_
    refine lv_iconst (v := 1) hx hb dX3_signsNext_53 (by decide) ?_
    refine lv_iand hx hb dX3_signsNext_54 ?_
    refine lv_iconst (v := 1) hx hb dX3_signsNext_55 (by decide) ?_
    refine b_iceq (tgt := 107) hx hb hf dX3_signsNext_56 (by decide) (fun hf => ?_) (fun hf => ?_)
    · refine lv_iinc (v := l5 + 1) (lv' := [(5, .int (l5 + 1)), (6, .int (v2 + 10)), (0, .ref (w.2.2.1 28)), (1, .int l1), (2, .int l2), (3, .int l3), (4, .int l4)]) hx hb dX3_signsNext_107 hl (k := 6) rfl rfl (by decide) rfl (fun ls hl => ?_)
      refine lv_goto (tgt := 16) hx hb dX3_signsNext_110 (by decide) ?_
      exact ih x l1 l2 l3 l4 (l5 + 1) _ _ _ hI (lv_sub hl [2, 3, 4, 5, 6, 0] rfl) hf
    · refine lv_iload hx hb dX3_signsNext_59 (lv_at hl 0 rfl) ?_
      refine lv_aload_n hx hb dX3_signsNext_61 rfl (lv_at hl 1 rfl) ?_
      refine mg0 C hI dX3_signsNext_62 ?_
      refine lv_bipush (v := 105) hx hb dX3_signsNext_65 (by decide) ?_
      refine lv_iconst (v := 2) hx hb dX3_signsNext_67 (by decide) ?_
      refine lv_iload hx hb dX3_signsNext_68 (lv_at hl 6 rfl) ?_
      refine lv_imul hx hb dX3_signsNext_70 ?_
      refine lv_iadd hx hb dX3_signsNext_71 ?_
      refine lv_iconst (v := 1) hx hb dX3_signsNext_72 (by decide) ?_
      refine lv_iadd hx hb dX3_signsNext_73 ?_
      refine ma0 C hI hf dX3_signsNext_74 (fun v3 hf => ?_)
      refine b_icle (tgt := 81) hx hb hf dX3_signsNext_75 (by decide) (fun hf => ?_) (fun hf => ?_)
      · refine lv_aload_n hx hb dX3_signsNext_81 rfl (lv_at hl 1 rfl) ?_
        refine lv_iload hx hb dX3_signsNext_82 (lv_at hl 0 rfl) ?_
        refine lv_iload_n hx hb dX3_signsNext_84 rfl (lv_at hl 3 rfl) ?_
        refine lv_iconst (v := 1) hx hb dX3_signsNext_85 (by decide) ?_
        refine lv_iload hx hb dX3_signsNext_86 (lv_at hl 6 rfl) ?_
        refine lv_ishl hx hb dX3_signsNext_88 ?_
        refine lv_ior hx hb dX3_signsNext_89 ?_
        refine m_callv (rest := []) C hI hf (mm_laysSigns l N _ _ _) rfl cqM_laysSigns ⟨rfl, rfl⟩ ⟨Nat.le_of_ble_eq_true rfl, Nat.le_of_ble_eq_true rfl⟩ rfl hl.1 rfl (Nat.le_of_ble_eq_true rfl) dX3_signsNext_90 (fun x4 H locs hI hf => ?_)
        refine lv_aload_n hx hb dX3_signsNext_93 rfl (lv_at hl 1 rfl) ?_
        refine mg27 C hI dX3_signsNext_94 ?_
        refine lv_iload hx hb dX3_signsNext_97 (lv_at hl 5 rfl) ?_
        refine ma27 C hI hf dX3_signsNext_99 (fun v5 hf => ?_)
        refine lv_iload_n hx hb dX3_signsNext_100 rfl (lv_at hl 4 rfl) ?_
        refine b_icne (tgt := 107) hx hb hf dX3_signsNext_101 (by decide) (fun hf => ?_) (fun hf => ?_)
        · refine lv_iinc (v := l5 + 1) (lv' := [(5, .int (l5 + 1)), (6, .int (v2 + 10)), (0, .ref (w.2.2.1 28)), (1, .int l1), (2, .int l2), (3, .int l3), (4, .int l4)]) hx hb dX3_signsNext_107 hl (k := 6) rfl rfl (by decide) rfl (fun ls hl => ?_)
          refine lv_goto (tgt := 16) hx hb dX3_signsNext_110 (by decide) ?_
          exact ih x4 l1 l2 l3 l4 (l5 + 1) _ _ _ hI (lv_sub hl [2, 3, 4, 5, 6, 0] rfl) hf
        · refine lv_iload hx hb dX3_signsNext_104 (lv_at hl 6 rfl) ?_
          exact m_iret C hI hf dX3_signsNext_106
      · refine lv_goto (tgt := 107) hx hb dX3_signsNext_78 (by decide) ?_
        refine lv_iinc (v := l5 + 1) (lv' := [(5, .int (l5 + 1)), (6, .int (v2 + 10)), (0, .ref (w.2.2.1 28)), (1, .int l1), (2, .int l2), (3, .int l3), (4, .int l4)]) hx hb dX3_signsNext_107 hl (k := 6) rfl rfl (by decide) rfl (fun ls hl => ?_)
        refine lv_goto (tgt := 16) hx hb dX3_signsNext_110 (by decide) ?_
        exact ih x l1 l2 l3 l4 (l5 + 1) _ _ _ hI (lv_sub hl [2, 3, 4, 5, 6, 0] rfl) hf
def fM_signsNext (N : Nat) (x : MS) (l1 : Int32) (l2 : Int32) (l3 : Int32) : Option (Int32 × MS) :=
  fM_signsNext_b16 N N x l1 l2 l3 ((1 <<< ((gA x 0 88) &&& 31)) - 1) 0
theorem mm_signsNext (l : Launch) (N : Nat) {w : mO} {A : Nat → Prop} : ∀ (x : MS) (l1 : Int32) (l2 : Int32) (l3 : Int32) (r : Int32) (xr : MS), fM_signsNext N x l1 l2 l3 = some (r, xr) → mMet l yX3_signsNext (ws_ yX3_signsNext cX3_signsNext 7 (some .int)) rmM_signsNext [.ref (w.2.2.1 28), .int l1, .int l2, .int l3] w A x (some (.int r)) xr := by
  intro x l1 l2 l3 r xr hf
  refine m_start (cc := cX3_signsNext) (by decide +kernel) rfl (Nat.le_of_ble_eq_true rfl) rfl ?_
  intro p e s m args below meth c ls H locs C hI hl
  have hx := C.1.1
  have hb := C.1.2.1
  have hown := C.1.2.2.2.1
  have hts := C.1.2.2.2.2.1
  have hE := C.2.2
  rw [fM_signsNext] at hf
  refine lv_iconst (v := 1) hx hb dX3_signsNext_0 (by decide) ?_
  refine lv_aload_n hx hb dX3_signsNext_1 rfl (lv_at hl 0 rfl) ?_
  refine mg0 C hI dX3_signsNext_2 ?_
  refine lv_bipush (v := 88) hx hb dX3_signsNext_5 (by decide) ?_
  refine mac0 C hI rc1725_88 dX3_signsNext_7 ?_
  refine lv_ishl hx hb dX3_signsNext_8 ?_
  refine lv_iconst (v := 1) hx hb dX3_signsNext_9 (by decide) ?_
  refine lv_isub hx hb dX3_signsNext_10 ?_
  refine lv_istore (lv' := [(4, .int ((1 <<< ((gA x 0 88) &&& 31)) - 1)), (0, .ref (w.2.2.1 28)), (1, .int l1), (2, .int l2), (3, .int l3)]) hx hb dX3_signsNext_11 hl (by decide) rfl (fun ls hl => ?_)
  refine lv_iconst (v := 0) hx hb dX3_signsNext_13 (by decide) ?_
  refine lv_istore (lv' := [(5, .int 0), (4, .int ((1 <<< ((gA x 0 88) &&& 31)) - 1)), (0, .ref (w.2.2.1 28)), (1, .int l1), (2, .int l2), (3, .int l3)]) hx hb dX3_signsNext_14 hl (by decide) rfl (fun ls hl => ?_)
  exact w_fM_signsNext_b16 C N x l1 l2 l3 ((1 <<< ((gA x 0 88) &&& 31)) - 1) 0 _ _ _ hI (lv_sub hl [2, 3, 4, 5, 1, 0] rfl) hf
/-! signs(I)I -/
abbrev rmM_signs : Room := { frames := 3, cells := 0, slots := 0, locals := 73 }
def fM_signs_b80 (N : Nat) : Nat → MS → Int32 → Int32 → Int32 → Int32 → Int32 → Int32 → Option (Int32 × MS)
  | 0, _, _, _, _, _, _, _ => none
  | n + 1, x, l1, l3, l4, l5, l6, l7 =>
  if l1 < l7 then
    some (l6, x)
  else
    b2 (fM_signsNext N x l4 l5 l3) fun v2 x1 =>
    (rd 1725 (gA x1 0) (105 + (2 * v2))).bind fun v3 =>
    (fM_greater N l4 v3).bind fun v4 =>
    fM_signs_b80 N n x1 l1 l3 (v4 + 10) (l5 ||| (1 <<< (v2 &&& 31))) v2 (l7 + 1)
theorem w_fM_signs_b80 {N : Nat} {r : Int32} {xr : MS} (C : mC w A p s m args meth c cX3_signs 8 (some .int)) : ∀ (n : Nat) (x : MS) (l1 : Int32) (l3 : Int32) (l4 : Int32) (l5 : Int32) (l6 : Int32) (l7 : Int32) (H : Heap) (locs : List Loc) (ls : Array Slot), mI w A x s.heap H locs → lv_has ls 8 [(0, .ref (w.2.2.1 28)), (1, .int l1), (3, .int l3), (4, .int l4), (5, .int l5), (6, .int l6), (7, .int l7)] → fM_signs_b80 N n x l1 l3 l4 l5 l6 l7 = some (r, xr) → W p l e rmM_signs s m args below meth c H locs 0 0 (MQ below (mQ w A (some (.int r)) xr) args s 0 0 A) (F0 m 80 ls []) := by
  have hx := C.1.1
  have hb := C.1.2.1
  have hown := C.1.2.2.2.1
  have hts := C.1.2.2.2.2.1
  have hE := C.2.2
  intro n
  induction n with
  | zero => intro x l1 l3 l4 l5 l6 l7 H locs ls hI hl hf; rw [fM_signs_b80] at hf; cases hf
  | succ n ih =>
  intro x l1 l3 l4 l5 l6 l7 H locs ls hI hl hf
  rw [fM_signs_b80] at hf
  refine lv_iload hx hb dX3_signs_80 (lv_at hl 6 rfl) ?_
  refine lv_iload_n hx hb dX3_signs_82 rfl (lv_at hl 1 rfl) ?_
  refine b_icgt (tgt := 134) hx hb hf dX3_signs_83 (by decide) (fun hf => ?_) (fun hf => ?_)
  · refine lv_iload hx hb dX3_signs_134 (lv_at hl 5 rfl) ?_
    exact m_iret C hI hf dX3_signs_136
  · refine lv_aload_n hx hb dX3_signs_86 rfl (lv_at hl 0 rfl) ?_
    refine lv_iload hx hb dX3_signs_87 (lv_at hl 3 rfl) ?_
    refine lv_iload hx hb dX3_signs_89 (lv_at hl 4 rfl) ?_
    refine lv_iload_n hx hb dX3_signs_91 rfl (lv_at hl 2 rfl) ?_
    refine m_calli (rest := []) C hI hf (mm_signsNext l N _ _ _ _) rfl cqM_signsNext ⟨rfl, rfl⟩ ⟨Nat.le_of_ble_eq_true rfl, Nat.le_of_ble_eq_true rfl⟩ rfl hl.1 rfl (Nat.le_of_ble_eq_true rfl) dX3_signs_92 (fun v2 x1 H locs hI hf => ?_)
    refine lv_istore (lv' := [(6, .int v2), (0, .ref (w.2.2.1 28)), (1, .int l1), (3, .int l3), (4, .int l4), (5, .int l5), (7, .int l7)]) hx hb dX3_signs_95 hl (by decide) rfl (fun ls hl => ?_)
    refine lv_iload hx hb dX3_signs_97 (lv_at hl 4 rfl) ?_
    refine lv_aload_n hx hb dX3_signs_99 rfl (lv_at hl 1 rfl) ?_
    refine mg0 C hI dX3_signs_100 ?_
    refine lv_bipush (v := 105) hx hb dX3_signs_103 (by decide) ?_
    refine lv_iconst (v := 2) hx hb dX3_signs_105 (by decide) ?_
    refine lv_iload hx hb dX3_signs_106 (lv_at hl 0 rfl) ?_
    refine lv_imul hx hb dX3_signs_108 ?_
    refine lv_iadd hx hb dX3_signs_109 ?_
    refine ma0 C hI hf dX3_signs_110 (fun v3 hf => ?_)
    refine g_calliS (rest := []) C.1 hf (smM_greater l N _ _) cqM_M_greater ⟨rfl, rfl⟩ ⟨Nat.le_of_ble_eq_true rfl, Nat.le_of_ble_eq_true rfl⟩ rfl hl.1 rfl (Nat.le_of_ble_eq_true rfl) ⟨Nat.zero_le _, Nat.zero_le _⟩ dX3_signs_111 (fun v4 hf => ?_)
    refine lv_bipush (v := 10) hx hb dX3_signs_114 (by decide) ?_
    refine lv_iadd hx hb dX3_signs_116 ?_
    refine lv_istore (lv' := [(4, .int (v4 + 10)), (6, .int v2), (0, .ref (w.2.2.1 28)), (1, .int l1), (3, .int l3), (5, .int l5), (7, .int l7)]) hx hb dX3_signs_117 hl (by decide) rfl (fun ls hl => ?_)
    refine lv_iload hx hb dX3_signs_119 (lv_at hl 5 rfl) ?_
    refine lv_iconst (v := 1) hx hb dX3_signs_121 (by decide) ?_
    refine lv_iload hx hb dX3_signs_122 (lv_at hl 1 rfl) ?_
    refine lv_ishl hx hb dX3_signs_124 ?_
    refine lv_ior hx hb dX3_signs_125 ?_
    refine lv_istore (lv' := [(5, .int (l5 ||| (1 <<< (v2 &&& 31)))), (4, .int (v4 + 10)), (6, .int v2), (0, .ref (w.2.2.1 28)), (1, .int l1), (3, .int l3), (7, .int l7)]) hx hb dX3_signs_126 hl (by decide) rfl (fun ls hl => ?_)
    refine lv_iinc (v := l7 + 1) (lv' := [(7, .int (l7 + 1)), (5, .int (l5 ||| (1 <<< (v2 &&& 31)))), (4, .int (v4 + 10)), (6, .int v2), (0, .ref (w.2.2.1 28)), (1, .int l1), (3, .int l3)]) hx hb dX3_signs_128 hl (k := 6) rfl rfl (by decide) rfl (fun ls hl => ?_)
    refine lv_goto (tgt := 80) hx hb dX3_signs_131 (by decide) ?_
    exact ih x1 l1 l3 (v4 + 10) (l5 ||| (1 <<< (v2 &&& 31))) v2 (l7 + 1) _ _ _ hI (lv_sub hl [4, 5, 6, 2, 1, 3, 0] rfl) hf
def fM_signs (N : Nat) (x : MS) (l1 : Int32) : Option (Int32 × MS) :=
  (fM_laysSigns N x 0 0).bind fun x1 =>
  if l1 = 1 then
    b2 (fM_mostSigned N x1) fun v5 x4 =>
    some (v5, x4)
  else
    (rd 4096 (gA x1 27) ((1 <<< ((gA x 0 88) &&& 31)) - 1)).bind fun v2 =>
    if v2 = 1000000000 then
      some ((-1), x1)
    else
      if l1 = 0 then
        fM_signs_b80 N N x1 l1 v2 0 0 v2 10
      else
        (fM_isIn N l1 10 (9 + (gA x1 0 88))).bind fun v3 =>
        if v3 = 0 then
          some ((-1), x1)
        else
          fM_signs_b80 N N x1 l1 v2 0 0 v2 10
theorem mm_signs (l : Launch) (N : Nat) {w : mO} {A : Nat → Prop} : ∀ (x : MS) (l1 : Int32) (r : Int32) (xr : MS), fM_signs N x l1 = some (r, xr) → mMet l yX3_signs (ws_ yX3_signs cX3_signs 8 (some .int)) rmM_signs [.ref (w.2.2.1 28), .int l1] w A x (some (.int r)) xr := by
  intro x l1 r xr hf
  refine m_start (cc := cX3_signs) (by decide +kernel) rfl (Nat.le_of_ble_eq_true rfl) rfl ?_
  intro p e s m args below meth c ls H locs C hI hl
  have hx := C.1.1
  have hb := C.1.2.1
  have hown := C.1.2.2.2.1
  have hts := C.1.2.2.2.2.1
  have hE := C.2.2
  rw [fM_signs] at hf
  refine lv_iconst (v := 1) hx hb dX3_signs_0 (by decide) ?_
  refine lv_aload_n hx hb dX3_signs_1 rfl (lv_at hl 0 rfl) ?_
  refine mg0 C hI dX3_signs_2 ?_
  refine lv_bipush (v := 88) hx hb dX3_signs_5 (by decide) ?_
  refine mac0 C hI rc1725_88 dX3_signs_7 ?_
  refine lv_ishl hx hb dX3_signs_8 ?_
  refine lv_iconst (v := 1) hx hb dX3_signs_9 (by decide) ?_
  refine lv_isub hx hb dX3_signs_10 ?_
  refine lv_istore_n (lv' := [(2, .int ((1 <<< ((gA x 0 88) &&& 31)) - 1)), (0, .ref (w.2.2.1 28)), (1, .int l1)]) hx hb dX3_signs_11 rfl hl (by decide) rfl (fun ls hl => ?_)
  refine lv_aload_n hx hb dX3_signs_12 rfl (lv_at hl 1 rfl) ?_
  refine lv_iconst (v := 0) hx hb dX3_signs_13 (by decide) ?_
  refine lv_iconst (v := 0) hx hb dX3_signs_14 (by decide) ?_
  refine m_callv (rest := []) C hI hf (mm_laysSigns l N _ _ _) rfl cqM_laysSigns ⟨rfl, rfl⟩ ⟨Nat.le_of_ble_eq_true rfl, Nat.le_of_ble_eq_true rfl⟩ rfl hl.1 rfl (Nat.le_of_ble_eq_true rfl) dX3_signs_15 (fun x1 H locs hI hf => ?_)
  refine lv_iload_n hx hb dX3_signs_18 rfl (lv_at hl 2 rfl) ?_
  refine lv_iconst (v := 1) hx hb dX3_signs_19 (by decide) ?_
  refine b_icne (tgt := 28) hx hb hf dX3_signs_20 (by decide) (fun hf => ?_) (fun hf => ?_)
  · refine lv_aload_n hx hb dX3_signs_28 rfl (lv_at hl 1 rfl) ?_
    refine mg27 C hI dX3_signs_29 ?_
    refine lv_iload_n hx hb dX3_signs_32 rfl (lv_at hl 0 rfl) ?_
    refine ma27 C hI hf dX3_signs_33 (fun v2 hf => ?_)
    refine lv_istore_n (lv' := [(3, .int v2), (2, .int ((1 <<< ((gA x 0 88) &&& 31)) - 1)), (0, .ref (w.2.2.1 28)), (1, .int l1)]) hx hb dX3_signs_34 rfl hl (by decide) rfl (fun ls hl => ?_)
    refine lv_iload_n hx hb dX3_signs_35 rfl (lv_at hl 0 rfl) ?_
    refine lv_ldcw hx hb hown (hts _ q1964) dX3_signs_36 ?_
    refine b_iceq (tgt := 65) hx hb hf dX3_signs_39 (by decide) (fun hf => ?_) (fun hf => ?_)
    · refine lv_iconst (v := (-1)) hx hb dX3_signs_65 (by decide) ?_
      exact m_iret C hI hf dX3_signs_66
    · refine lv_iload_n hx hb dX3_signs_42 rfl (lv_at hl 3 rfl) ?_
      refine b_ifeq (tgt := 67) hx hb hf dX3_signs_43 (by decide) (fun hf => ?_) (fun hf => ?_)
      · refine lv_iconst (v := 0) hx hb dX3_signs_67 (by decide) ?_
        refine lv_istore (lv' := [(4, .int 0), (3, .int v2), (2, .int ((1 <<< ((gA x 0 88) &&& 31)) - 1)), (0, .ref (w.2.2.1 28)), (1, .int l1)]) hx hb dX3_signs_68 hl (by decide) rfl (fun ls hl => ?_)
        refine lv_iconst (v := 0) hx hb dX3_signs_70 (by decide) ?_
        refine lv_istore (lv' := [(5, .int 0), (4, .int 0), (3, .int v2), (2, .int ((1 <<< ((gA x 0 88) &&& 31)) - 1)), (0, .ref (w.2.2.1 28)), (1, .int l1)]) hx hb dX3_signs_71 hl (by decide) rfl (fun ls hl => ?_)
        refine lv_iload_n hx hb dX3_signs_73 rfl (lv_at hl 2 rfl) ?_
        refine lv_istore (lv' := [(6, .int v2), (5, .int 0), (4, .int 0), (3, .int v2), (2, .int ((1 <<< ((gA x 0 88) &&& 31)) - 1)), (0, .ref (w.2.2.1 28)), (1, .int l1)]) hx hb dX3_signs_74 hl (by decide) rfl (fun ls hl => ?_)
        refine lv_bipush (v := 10) hx hb dX3_signs_76 (by decide) ?_
        refine lv_istore (lv' := [(7, .int 10), (6, .int v2), (5, .int 0), (4, .int 0), (3, .int v2), (2, .int ((1 <<< ((gA x 0 88) &&& 31)) - 1)), (0, .ref (w.2.2.1 28)), (1, .int l1)]) hx hb dX3_signs_78 hl (by decide) rfl (fun ls hl => ?_)
        exact w_fM_signs_b80 C N x1 l1 v2 0 0 v2 10 _ _ _ hI (lv_sub hl [6, 7, 4, 3, 2, 1, 0] rfl) hf
      · refine lv_iload_n hx hb dX3_signs_46 rfl (lv_at hl 3 rfl) ?_
        refine lv_bipush (v := 10) hx hb dX3_signs_47 (by decide) ?_
        refine lv_bipush (v := 9) hx hb dX3_signs_49 (by decide) ?_
        refine lv_aload_n hx hb dX3_signs_51 rfl (lv_at hl 2 rfl) ?_
        refine mg0 C hI dX3_signs_52 ?_
        refine lv_bipush (v := 88) hx hb dX3_signs_55 (by decide) ?_
        refine mac0 C hI rc1725_88 dX3_signs_57 ?_
        refine lv_iadd hx hb dX3_signs_58 ?_
        refine g_calliS (rest := []) C.1 hf (smM_isIn l N _ _ _) cqM_M_isIn ⟨rfl, rfl⟩ ⟨Nat.le_of_ble_eq_true rfl, Nat.le_of_ble_eq_true rfl⟩ rfl hl.1 rfl (Nat.le_of_ble_eq_true rfl) ⟨Nat.zero_le _, Nat.zero_le _⟩ dX3_signs_59 (fun v3 hf => ?_)
        refine b_ifne (tgt := 67) hx hb hf dX3_signs_62 (by decide) (fun hf => ?_) (fun hf => ?_)
        · refine lv_iconst (v := 0) hx hb dX3_signs_67 (by decide) ?_
          refine lv_istore (lv' := [(4, .int 0), (3, .int v2), (2, .int ((1 <<< ((gA x 0 88) &&& 31)) - 1)), (0, .ref (w.2.2.1 28)), (1, .int l1)]) hx hb dX3_signs_68 hl (by decide) rfl (fun ls hl => ?_)
          refine lv_iconst (v := 0) hx hb dX3_signs_70 (by decide) ?_
          refine lv_istore (lv' := [(5, .int 0), (4, .int 0), (3, .int v2), (2, .int ((1 <<< ((gA x 0 88) &&& 31)) - 1)), (0, .ref (w.2.2.1 28)), (1, .int l1)]) hx hb dX3_signs_71 hl (by decide) rfl (fun ls hl => ?_)
          refine lv_iload_n hx hb dX3_signs_73 rfl (lv_at hl 2 rfl) ?_
          refine lv_istore (lv' := [(6, .int v2), (5, .int 0), (4, .int 0), (3, .int v2), (2, .int ((1 <<< ((gA x 0 88) &&& 31)) - 1)), (0, .ref (w.2.2.1 28)), (1, .int l1)]) hx hb dX3_signs_74 hl (by decide) rfl (fun ls hl => ?_)
          refine lv_bipush (v := 10) hx hb dX3_signs_76 (by decide) ?_
          refine lv_istore (lv' := [(7, .int 10), (6, .int v2), (5, .int 0), (4, .int 0), (3, .int v2), (2, .int ((1 <<< ((gA x 0 88) &&& 31)) - 1)), (0, .ref (w.2.2.1 28)), (1, .int l1)]) hx hb dX3_signs_78 hl (by decide) rfl (fun ls hl => ?_)
          exact w_fM_signs_b80 C N x1 l1 v2 0 0 v2 10 _ _ _ hI (lv_sub hl [6, 7, 4, 3, 2, 1, 0] rfl) hf
        · refine lv_iconst (v := (-1)) hx hb dX3_signs_65 (by decide) ?_
          exact m_iret C hI hf dX3_signs_66
  · refine lv_aload_n hx hb dX3_signs_23 rfl (lv_at hl 1 rfl) ?_
    refine m_calli (rest := []) C hI hf (mm_mostSigned l N _) rfl cqM_mostSigned ⟨rfl, rfl⟩ ⟨Nat.le_of_ble_eq_true rfl, Nat.le_of_ble_eq_true rfl⟩ rfl hl.1 rfl (Nat.le_of_ble_eq_true rfl) dX3_signs_24 (fun v5 x4 H locs hI hf => ?_)
    exact m_iret C hI hf dX3_signs_27
/-! money(II)I -/
abbrev rmM_money : Room := { frames := 1, cells := 0, slots := 0, locals := 22 }
def fM_money_b32 (N : Nat) : Nat → MS → Int32 → Int32 → Int32 → Int32 → Option (Int32 × MS)
  | 0, _, _, _, _, _ => none
  | n + 1, x, l2, l3, l4, l5 =>
  if (gA x 0 88) ≤ l5 then
    some (l3, x)
  else
    (rd 1725 (gA x 0) (93 + l5)).bind fun v1 =>
    lt (if l2 < (l4 + (10 + v1)) then l3 else l5 : Int32) fun v2 =>
    fM_money_b32 N n x l2 v2 (l4 + (10 + v1)) (l5 + 1)
theorem w_fM_money_b32 {N : Nat} {r : Int32} {xr : MS} (C : mC w A p s m args meth c cX3_money 6 (some .int)) : ∀ (n : Nat) (x : MS) (l2 : Int32) (l3 : Int32) (l4 : Int32) (l5 : Int32) (H : Heap) (locs : List Loc) (ls : Array Slot), mI w A x s.heap H locs → lv_has ls 6 [(0, .ref (w.2.2.1 28)), (2, .int l2), (3, .int l3), (4, .int l4), (5, .int l5)] → fM_money_b32 N n x l2 l3 l4 l5 = some (r, xr) → W p l e rmM_money s m args below meth c H locs 0 0 (MQ below (mQ w A (some (.int r)) xr) args s 0 0 A) (F0 m 32 ls []) := by
  have hx := C.1.1
  have hb := C.1.2.1
  have hown := C.1.2.2.2.1
  have hts := C.1.2.2.2.2.1
  have hE := C.2.2
  intro n
  induction n with
  | zero => intro x l2 l3 l4 l5 H locs ls hI hl hf; rw [fM_money_b32] at hf; cases hf
  | succ n ih =>
  intro x l2 l3 l4 l5 H locs ls hI hl hf
  rw [fM_money_b32] at hf
  refine lv_iload hx hb dX3_money_32 (lv_at hl 4 rfl) ?_
  refine lv_aload_n hx hb dX3_money_34 rfl (lv_at hl 0 rfl) ?_
  refine mg0 C hI dX3_money_35 ?_
  refine lv_bipush (v := 88) hx hb dX3_money_38 (by decide) ?_
  refine mac0 C hI rc1725_88 dX3_money_40 ?_
  refine b_icge (tgt := 81) hx hb hf dX3_money_41 (by decide) (fun hf => ?_) (fun hf => ?_)
  · refine lv_iload_n hx hb dX3_money_81 rfl (lv_at hl 2 rfl) ?_
    exact m_iret C hI hf dX3_money_82
  · refine lv_iload hx hb dX3_money_44 (lv_at hl 3 rfl) ?_
    refine lv_bipush (v := 10) hx hb dX3_money_46 (by decide) ?_
    refine lv_aload_n hx hb dX3_money_48 rfl (lv_at hl 0 rfl) ?_
    refine mg0 C hI dX3_money_49 ?_
    refine lv_bipush (v := 93) hx hb dX3_money_52 (by decide) ?_
    refine lv_iload hx hb dX3_money_54 (lv_at hl 4 rfl) ?_
    refine lv_iadd hx hb dX3_money_56 ?_
    refine ma0 C hI hf dX3_money_57 (fun v1 hf => ?_)
    refine lv_iadd hx hb dX3_money_58 ?_
    refine lv_iadd hx hb dX3_money_59 ?_
    refine lv_istore (lv' := [(4, .int (l4 + (10 + v1))), (0, .ref (w.2.2.1 28)), (2, .int l2), (3, .int l3), (5, .int l5)]) hx hb dX3_money_60 hl (by decide) rfl (fun ls hl => ?_)
    refine lv_iload hx hb dX3_money_62 (lv_at hl 0 rfl) ?_
    refine lv_iload_n hx hb dX3_money_64 rfl (lv_at hl 2 rfl) ?_
    suffices hJ : ∀ v2 : Int32, (v2 = (if l2 < (l4 + (10 + v1)) then l3 else l5 : Int32)) → W p l e rmM_money s m args below meth c H locs 0 0 (MQ below (mQ w A (some (.int r)) xr) args s 0 0 A) (F0 m 74 ls [.int v2]) by
      refine lv_icmp_gt (tgt := 73) hx hb dX3_money_65 (by decide) (fun hc => ?_) (fun hc => ?_)
      · refine lv_iload_n hx hb dX3_money_73 rfl (lv_at hl 3 rfl) ?_
        exact hJ _ (if_pos hc).symm
      · refine lv_iload hx hb dX3_money_68 (lv_at hl 4 rfl) ?_
        refine lv_goto (tgt := 74) hx hb dX3_money_70 (by decide) ?_
        exact hJ _ (if_neg hc).symm
    intro v2 hv
    have hf := lt_of hv hf
    refine lv_istore_n (lv' := [(3, .int v2), (4, .int (l4 + (10 + v1))), (0, .ref (w.2.2.1 28)), (2, .int l2), (5, .int l5)]) hx hb dX3_money_74 rfl hl (by decide) rfl (fun ls hl => ?_)
    refine lv_iinc (v := l5 + 1) (lv' := [(5, .int (l5 + 1)), (3, .int v2), (4, .int (l4 + (10 + v1))), (0, .ref (w.2.2.1 28)), (2, .int l2)]) hx hb dX3_money_75 hl (k := 4) rfl rfl (by decide) rfl (fun ls hl => ?_)
    refine lv_goto (tgt := 32) hx hb dX3_money_78 (by decide) ?_
    exact ih x l2 v2 (l4 + (10 + v1)) (l5 + 1) _ _ _ hI (lv_sub hl [3, 4, 1, 2, 0] rfl) hf
def fM_money (N : Nat) (x : MS) (l1 : Int32) (l2 : Int32) : Option (Int32 × MS) :=
  (fM_isIn N l1 0 600).bind fun v1 =>
  if v1 = 0 then
    some ((-1), x)
  else
    (fM_isIn N l2 0 600).bind fun v2 =>
    if v2 = 0 then
      some ((-1), x)
    else
      fM_money_b32 N N x l2 (-1) l1 0
theorem mm_money (l : Launch) (N : Nat) {w : mO} {A : Nat → Prop} : ∀ (x : MS) (l1 : Int32) (l2 : Int32) (r : Int32) (xr : MS), fM_money N x l1 l2 = some (r, xr) → mMet l yX3_money (ws_ yX3_money cX3_money 6 (some .int)) rmM_money [.ref (w.2.2.1 28), .int l1, .int l2] w A x (some (.int r)) xr := by
  intro x l1 l2 r xr hf
  refine m_start (cc := cX3_money) (by decide +kernel) rfl (Nat.le_of_ble_eq_true rfl) rfl ?_
  intro p e s m args below meth c ls H locs C hI hl
  have hx := C.1.1
  have hb := C.1.2.1
  have hown := C.1.2.2.2.1
  have hts := C.1.2.2.2.2.1
  have hE := C.2.2
  rw [fM_money] at hf
  refine lv_iload_n hx hb dX3_money_0 rfl (lv_at hl 1 rfl) ?_
  refine lv_iconst (v := 0) hx hb dX3_money_1 (by decide) ?_
  refine lv_sipush (v := 600) hx hb dX3_money_2 (by decide) ?_
  refine g_calliS (rest := []) C.1 hf (smM_isIn l N _ _ _) cqM_M_isIn ⟨rfl, rfl⟩ ⟨Nat.le_of_ble_eq_true rfl, Nat.le_of_ble_eq_true rfl⟩ rfl hl.1 rfl (Nat.le_of_ble_eq_true rfl) ⟨Nat.zero_le _, Nat.zero_le _⟩ dX3_money_5 (fun v1 hf => ?_)
  refine b_ifeq (tgt := 22) hx hb hf dX3_money_8 (by decide) (fun hf => ?_) (fun hf => ?_)
  · refine lv_iconst (v := (-1)) hx hb dX3_money_22 (by decide) ?_
    exact m_iret C hI hf dX3_money_23
  · refine lv_iload_n hx hb dX3_money_11 rfl (lv_at hl 2 rfl) ?_
    refine lv_iconst (v := 0) hx hb dX3_money_12 (by decide) ?_
    refine lv_sipush (v := 600) hx hb dX3_money_13 (by decide) ?_
    refine g_calliS (rest := []) C.1 hf (smM_isIn l N _ _ _) cqM_M_isIn ⟨rfl, rfl⟩ ⟨Nat.le_of_ble_eq_true rfl, Nat.le_of_ble_eq_true rfl⟩ rfl hl.1 rfl (Nat.le_of_ble_eq_true rfl) ⟨Nat.zero_le _, Nat.zero_le _⟩ dX3_money_16 (fun v2 hf => ?_)
    refine b_ifne (tgt := 24) hx hb hf dX3_money_19 (by decide) (fun hf => ?_) (fun hf => ?_)
    · refine lv_iconst (v := (-1)) hx hb dX3_money_24 (by decide) ?_
      refine lv_istore_n (lv' := [(3, .int (-1)), (0, .ref (w.2.2.1 28)), (1, .int l1), (2, .int l2)]) hx hb dX3_money_25 rfl hl (by decide) rfl (fun ls hl => ?_)
      refine lv_iload_n hx hb dX3_money_26 rfl (lv_at hl 2 rfl) ?_
      refine lv_istore (lv' := [(4, .int l1), (3, .int (-1)), (0, .ref (w.2.2.1 28)), (1, .int l1), (2, .int l2)]) hx hb dX3_money_27 hl (by decide) rfl (fun ls hl => ?_)
      refine lv_iconst (v := 0) hx hb dX3_money_29 (by decide) ?_
      refine lv_istore (lv' := [(5, .int 0), (4, .int l1), (3, .int (-1)), (0, .ref (w.2.2.1 28)), (1, .int l1), (2, .int l2)]) hx hb dX3_money_30 hl (by decide) rfl (fun ls hl => ?_)
      exact w_fM_money_b32 C N x l2 (-1) l1 0 _ _ _ hI (lv_sub hl [3, 5, 2, 1, 0] rfl) hf
    · refine lv_iconst (v := (-1)) hx hb dX3_money_22 (by decide) ?_
      exact m_iret C hI hf dX3_money_23
/-! ill(II)I -/
abbrev rmM_ill : Room := { frames := 2, cells := 0, slots := 0, locals := 47 }
def fM_ill_b28 (N : Nat) : Nat → MS → Int32 → Int32 → Int32 → Int32 → Option (Int32 × MS)
  | 0, _, _, _, _, _ => none
  | n + 1, x, l1, l2, l3, l4 =>
  if (gA x 0 88) ≤ l4 then
    some (l3, x)
  else
    b2 (fM_recordsOf N x l4 l1 ((l1 + l2) - 1)) fun v2 x1 =>
    lt (if v2 = 0 then 1 <<< (l4 &&& 31) else 0 : Int32) fun v3 =>
    fM_ill_b28 N n x1 l1 l2 (l3 ||| v3) (l4 + 1)
theorem w_fM_ill_b28 {N : Nat} {r : Int32} {xr : MS} (C : mC w A p s m args meth c cX3_ill 5 (some .int)) : ∀ (n : Nat) (x : MS) (l1 : Int32) (l2 : Int32) (l3 : Int32) (l4 : Int32) (H : Heap) (locs : List Loc) (ls : Array Slot), mI w A x s.heap H locs → lv_has ls 5 [(0, .ref (w.2.2.1 28)), (1, .int l1), (2, .int l2), (3, .int l3), (4, .int l4)] → fM_ill_b28 N n x l1 l2 l3 l4 = some (r, xr) → W p l e rmM_ill s m args below meth c H locs 0 0 (MQ below (mQ w A (some (.int r)) xr) args s 0 0 A) (F0 m 28 ls []) := by
  have hx := C.1.1
  have hb := C.1.2.1
  have hown := C.1.2.2.2.1
  have hts := C.1.2.2.2.2.1
  have hE := C.2.2
  intro n
  induction n with
  | zero => intro x l1 l2 l3 l4 H locs ls hI hl hf; rw [fM_ill_b28] at hf; cases hf
  | succ n ih =>
  intro x l1 l2 l3 l4 H locs ls hI hl hf
  rw [fM_ill_b28] at hf
  refine lv_iload hx hb dX3_ill_28 (lv_at hl 4 rfl) ?_
  refine lv_aload_n hx hb dX3_ill_30 rfl (lv_at hl 0 rfl) ?_
  refine mg0 C hI dX3_ill_31 ?_
  refine lv_bipush (v := 88) hx hb dX3_ill_34 (by decide) ?_
  refine mac0 C hI rc1725_88 dX3_ill_36 ?_
  refine b_icge (tgt := 72) hx hb hf dX3_ill_37 (by decide) (fun hf => ?_) (fun hf => ?_)
  · refine lv_iload_n hx hb dX3_ill_72 rfl (lv_at hl 3 rfl) ?_
    exact m_iret C hI hf dX3_ill_73
  · refine lv_iload_n hx hb dX3_ill_40 rfl (lv_at hl 3 rfl) ?_
    refine lv_aload_n hx hb dX3_ill_41 rfl (lv_at hl 0 rfl) ?_
    refine lv_iload hx hb dX3_ill_42 (lv_at hl 4 rfl) ?_
    refine lv_iload_n hx hb dX3_ill_44 rfl (lv_at hl 1 rfl) ?_
    refine lv_iload_n hx hb dX3_ill_45 rfl (lv_at hl 1 rfl) ?_
    refine lv_iload_n hx hb dX3_ill_46 rfl (lv_at hl 2 rfl) ?_
    refine lv_iadd hx hb dX3_ill_47 ?_
    refine lv_iconst (v := 1) hx hb dX3_ill_48 (by decide) ?_
    refine lv_isub hx hb dX3_ill_49 ?_
    refine m_calli (rest := [.int l3]) C hI hf (mm_recordsOf l N _ _ _ _) rfl cqM_recordsOf ⟨rfl, rfl⟩ ⟨Nat.le_of_ble_eq_true rfl, Nat.le_of_ble_eq_true rfl⟩ rfl hl.1 rfl (Nat.le_of_ble_eq_true rfl) dX3_ill_50 (fun v2 x1 H locs hI hf => ?_)
    suffices hJ : ∀ v3 : Int32, (v3 = (if v2 = 0 then 1 <<< (l4 &&& 31) else 0 : Int32)) → W p l e rmM_ill s m args below meth c H locs 0 0 (MQ below (mQ w A (some (.int r)) xr) args s 0 0 A) (F0 m 64 ls [.int v3, .int l3]) by
      refine lv_if_ne (tgt := 63) hx hb dX3_ill_53 (by decide) (fun hc => ?_) (fun hc => ?_)
      · refine lv_iconst (v := 0) hx hb dX3_ill_63 (by decide) ?_
        exact hJ _ (if_neg hc).symm
      · refine lv_iconst (v := 1) hx hb dX3_ill_56 (by decide) ?_
        refine lv_iload hx hb dX3_ill_57 (lv_at hl 4 rfl) ?_
        refine lv_ishl hx hb dX3_ill_59 ?_
        refine lv_goto (tgt := 64) hx hb dX3_ill_60 (by decide) ?_
        exact hJ _ (if_pos hc).symm
    intro v3 hv
    have hf := lt_of hv hf
    refine lv_ior hx hb dX3_ill_64 ?_
    refine lv_istore_n (lv' := [(3, .int (l3 ||| v3)), (0, .ref (w.2.2.1 28)), (1, .int l1), (2, .int l2), (4, .int l4)]) hx hb dX3_ill_65 rfl hl (by decide) rfl (fun ls hl => ?_)
    refine lv_iinc (v := l4 + 1) (lv' := [(4, .int (l4 + 1)), (3, .int (l3 ||| v3)), (0, .ref (w.2.2.1 28)), (1, .int l1), (2, .int l2)]) hx hb dX3_ill_66 hl (k := 4) rfl rfl (by decide) rfl (fun ls hl => ?_)
    refine lv_goto (tgt := 28) hx hb dX3_ill_69 (by decide) ?_
    exact ih x1 l1 l2 (l3 ||| v3) (l4 + 1) _ _ _ hI (lv_sub hl [2, 3, 4, 1, 0] rfl) hf
def fM_ill (N : Nat) (x : MS) (l1 : Int32) (l2 : Int32) : Option (Int32 × MS) :=
  (fM_isIn N l1 0 999).bind fun v1 =>
  if v1 = 0 then
    some ((-1), x)
  else
    (fM_isIn N l2 1 30).bind fun v2 =>
    if v2 = 0 then
      some ((-1), x)
    else
      fM_ill_b28 N N x l1 l2 0 0
theorem mm_ill (l : Launch) (N : Nat) {w : mO} {A : Nat → Prop} : ∀ (x : MS) (l1 : Int32) (l2 : Int32) (r : Int32) (xr : MS), fM_ill N x l1 l2 = some (r, xr) → mMet l yX3_ill (ws_ yX3_ill cX3_ill 5 (some .int)) rmM_ill [.ref (w.2.2.1 28), .int l1, .int l2] w A x (some (.int r)) xr := by
  intro x l1 l2 r xr hf
  refine m_start (cc := cX3_ill) (by decide +kernel) rfl (Nat.le_of_ble_eq_true rfl) rfl ?_
  intro p e s m args below meth c ls H locs C hI hl
  have hx := C.1.1
  have hb := C.1.2.1
  have hown := C.1.2.2.2.1
  have hts := C.1.2.2.2.2.1
  have hE := C.2.2
  rw [fM_ill] at hf
  refine lv_iload_n hx hb dX3_ill_0 rfl (lv_at hl 1 rfl) ?_
  refine lv_iconst (v := 0) hx hb dX3_ill_1 (by decide) ?_
  refine lv_sipush (v := 999) hx hb dX3_ill_2 (by decide) ?_
  refine g_calliS (rest := []) C.1 hf (smM_isIn l N _ _ _) cqM_M_isIn ⟨rfl, rfl⟩ ⟨Nat.le_of_ble_eq_true rfl, Nat.le_of_ble_eq_true rfl⟩ rfl hl.1 rfl (Nat.le_of_ble_eq_true rfl) ⟨Nat.zero_le _, Nat.zero_le _⟩ dX3_ill_5 (fun v1 hf => ?_)
  refine b_ifeq (tgt := 21) hx hb hf dX3_ill_8 (by decide) (fun hf => ?_) (fun hf => ?_)
  · refine lv_iconst (v := (-1)) hx hb dX3_ill_21 (by decide) ?_
    exact m_iret C hI hf dX3_ill_22
  · refine lv_iload_n hx hb dX3_ill_11 rfl (lv_at hl 2 rfl) ?_
    refine lv_iconst (v := 1) hx hb dX3_ill_12 (by decide) ?_
    refine lv_bipush (v := 30) hx hb dX3_ill_13 (by decide) ?_
    refine g_calliS (rest := []) C.1 hf (smM_isIn l N _ _ _) cqM_M_isIn ⟨rfl, rfl⟩ ⟨Nat.le_of_ble_eq_true rfl, Nat.le_of_ble_eq_true rfl⟩ rfl hl.1 rfl (Nat.le_of_ble_eq_true rfl) ⟨Nat.zero_le _, Nat.zero_le _⟩ dX3_ill_15 (fun v2 hf => ?_)
    refine b_ifne (tgt := 23) hx hb hf dX3_ill_18 (by decide) (fun hf => ?_) (fun hf => ?_)
    · refine lv_iconst (v := 0) hx hb dX3_ill_23 (by decide) ?_
      refine lv_istore_n (lv' := [(3, .int 0), (0, .ref (w.2.2.1 28)), (1, .int l1), (2, .int l2)]) hx hb dX3_ill_24 rfl hl (by decide) rfl (fun ls hl => ?_)
      refine lv_iconst (v := 0) hx hb dX3_ill_25 (by decide) ?_
      refine lv_istore (lv' := [(4, .int 0), (3, .int 0), (0, .ref (w.2.2.1 28)), (1, .int l1), (2, .int l2)]) hx hb dX3_ill_26 hl (by decide) rfl (fun ls hl => ?_)
      exact w_fM_ill_b28 C N x l1 l2 0 0 _ _ _ hI (lv_sub hl [2, 3, 4, 1, 0] rfl) hf
    · refine lv_iconst (v := (-1)) hx hb dX3_ill_21 (by decide) ?_
      exact m_iret C hI hf dX3_ill_22
/-! greaterBy(I)I -/
abbrev rmM_greaterBy : Room := { frames := 2, cells := 0, slots := 0, locals := 47 }
def fM_greaterBy_b4 (N : Nat) : Nat → MS → Int32 → Int32 → Int32 → Option (Int32 × MS)
  | 0, _, _, _, _ => none
  | n + 1, x, l1, l2, l3 =>
  if (gA x 0 88) ≤ l3 then
    (fM_greater N l2 ((gA x 0 88) - l2)).bind fun v1 =>
    some (v1, x)
  else
    b2 (fM_recordsOf N x l3 0 l1) fun v3 x2 =>
    lt (if v3 ≤ 0 then 0 else 1 : Int32) fun v4 =>
    fM_greaterBy_b4 N n x2 l1 (l2 + v4) (l3 + 1)
theorem w_fM_greaterBy_b4 {N : Nat} {r : Int32} {xr : MS} (C : mC w A p s m args meth c cX3_greaterBy 4 (some .int)) : ∀ (n : Nat) (x : MS) (l1 : Int32) (l2 : Int32) (l3 : Int32) (H : Heap) (locs : List Loc) (ls : Array Slot), mI w A x s.heap H locs → lv_has ls 4 [(0, .ref (w.2.2.1 28)), (1, .int l1), (2, .int l2), (3, .int l3)] → fM_greaterBy_b4 N n x l1 l2 l3 = some (r, xr) → W p l e rmM_greaterBy s m args below meth c H locs 0 0 (MQ below (mQ w A (some (.int r)) xr) args s 0 0 A) (F0 m 4 ls []) := by
  have hx := C.1.1
  have hb := C.1.2.1
  have hown := C.1.2.2.2.1
  have hts := C.1.2.2.2.2.1
  have hE := C.2.2
  intro n
  induction n with
  | zero => intro x l1 l2 l3 H locs ls hI hl hf; rw [fM_greaterBy_b4] at hf; cases hf
  | succ n ih =>
  intro x l1 l2 l3 H locs ls hI hl hf
  rw [fM_greaterBy_b4] at hf
  refine lv_iload_n hx hb dX3_greaterBy_4 rfl (lv_at hl 3 rfl) ?_
  refine lv_aload_n hx hb dX3_greaterBy_5 rfl (lv_at hl 0 rfl) ?_
  refine mg0 C hI dX3_greaterBy_6 ?_
  refine lv_bipush (v := 88) hx hb dX3_greaterBy_9 (by decide) ?_
  refine mac0 C hI rc1725_88 dX3_greaterBy_11 ?_
  refine b_icge (tgt := 39) hx hb hf dX3_greaterBy_12 (by decide) (fun hf => ?_) (fun hf => ?_)
  · refine lv_iload_n hx hb dX3_greaterBy_39 rfl (lv_at hl 2 rfl) ?_
    refine lv_aload_n hx hb dX3_greaterBy_40 rfl (lv_at hl 0 rfl) ?_
    refine mg0 C hI dX3_greaterBy_41 ?_
    refine lv_bipush (v := 88) hx hb dX3_greaterBy_44 (by decide) ?_
    refine mac0 C hI rc1725_88 dX3_greaterBy_46 ?_
    refine lv_iload_n hx hb dX3_greaterBy_47 rfl (lv_at hl 2 rfl) ?_
    refine lv_isub hx hb dX3_greaterBy_48 ?_
    refine g_calliS (rest := []) C.1 hf (smM_greater l N _ _) cqM_M_greater ⟨rfl, rfl⟩ ⟨Nat.le_of_ble_eq_true rfl, Nat.le_of_ble_eq_true rfl⟩ rfl hl.1 rfl (Nat.le_of_ble_eq_true rfl) ⟨Nat.zero_le _, Nat.zero_le _⟩ dX3_greaterBy_49 (fun v1 hf => ?_)
    exact m_iret C hI hf dX3_greaterBy_52
  · refine lv_iload_n hx hb dX3_greaterBy_15 rfl (lv_at hl 2 rfl) ?_
    refine lv_aload_n hx hb dX3_greaterBy_16 rfl (lv_at hl 0 rfl) ?_
    refine lv_iload_n hx hb dX3_greaterBy_17 rfl (lv_at hl 3 rfl) ?_
    refine lv_iconst (v := 0) hx hb dX3_greaterBy_18 (by decide) ?_
    refine lv_iload_n hx hb dX3_greaterBy_19 rfl (lv_at hl 1 rfl) ?_
    refine m_calli (rest := [.int l2]) C hI hf (mm_recordsOf l N _ _ _ _) rfl cqM_recordsOf ⟨rfl, rfl⟩ ⟨Nat.le_of_ble_eq_true rfl, Nat.le_of_ble_eq_true rfl⟩ rfl hl.1 rfl (Nat.le_of_ble_eq_true rfl) dX3_greaterBy_20 (fun v3 x2 H locs hI hf => ?_)
    suffices hJ : ∀ v4 : Int32, (v4 = (if v3 ≤ 0 then 0 else 1 : Int32)) → W p l e rmM_greaterBy s m args below meth c H locs 0 0 (MQ below (mQ w A (some (.int r)) xr) args s 0 0 A) (F0 m 31 ls [.int v4, .int l2]) by
      refine lv_if_le (tgt := 30) hx hb dX3_greaterBy_23 (by decide) (fun hc => ?_) (fun hc => ?_)
      · refine lv_iconst (v := 0) hx hb dX3_greaterBy_30 (by decide) ?_
        exact hJ _ (if_pos hc).symm
      · refine lv_iconst (v := 1) hx hb dX3_greaterBy_26 (by decide) ?_
        refine lv_goto (tgt := 31) hx hb dX3_greaterBy_27 (by decide) ?_
        exact hJ _ (if_neg hc).symm
    intro v4 hv
    have hf := lt_of hv hf
    refine lv_iadd hx hb dX3_greaterBy_31 ?_
    refine lv_istore_n (lv' := [(2, .int (l2 + v4)), (0, .ref (w.2.2.1 28)), (1, .int l1), (3, .int l3)]) hx hb dX3_greaterBy_32 rfl hl (by decide) rfl (fun ls hl => ?_)
    refine lv_iinc (v := l3 + 1) (lv' := [(3, .int (l3 + 1)), (2, .int (l2 + v4)), (0, .ref (w.2.2.1 28)), (1, .int l1)]) hx hb dX3_greaterBy_33 hl (k := 3) rfl rfl (by decide) rfl (fun ls hl => ?_)
    refine lv_goto (tgt := 4) hx hb dX3_greaterBy_36 (by decide) ?_
    exact ih x2 l1 (l2 + v4) (l3 + 1) _ _ _ hI (lv_sub hl [2, 3, 1, 0] rfl) hf
def fM_greaterBy (N : Nat) (x : MS) (l1 : Int32) : Option (Int32 × MS) :=
  fM_greaterBy_b4 N N x l1 0 0
theorem mm_greaterBy (l : Launch) (N : Nat) {w : mO} {A : Nat → Prop} : ∀ (x : MS) (l1 : Int32) (r : Int32) (xr : MS), fM_greaterBy N x l1 = some (r, xr) → mMet l yX3_greaterBy (ws_ yX3_greaterBy cX3_greaterBy 4 (some .int)) rmM_greaterBy [.ref (w.2.2.1 28), .int l1] w A x (some (.int r)) xr := by
  intro x l1 r xr hf
  refine m_start (cc := cX3_greaterBy) (by decide +kernel) rfl (Nat.le_of_ble_eq_true rfl) rfl ?_
  intro p e s m args below meth c ls H locs C hI hl
  have hx := C.1.1
  have hb := C.1.2.1
  have hown := C.1.2.2.2.1
  have hts := C.1.2.2.2.2.1
  have hE := C.2.2
  rw [fM_greaterBy] at hf
  refine lv_iconst (v := 0) hx hb dX3_greaterBy_0 (by decide) ?_
  refine lv_istore_n (lv' := [(2, .int 0), (0, .ref (w.2.2.1 28)), (1, .int l1)]) hx hb dX3_greaterBy_1 rfl hl (by decide) rfl (fun ls hl => ?_)
  refine lv_iconst (v := 0) hx hb dX3_greaterBy_2 (by decide) ?_
  refine lv_istore_n (lv' := [(3, .int 0), (2, .int 0), (0, .ref (w.2.2.1 28)), (1, .int l1)]) hx hb dX3_greaterBy_3 rfl hl (by decide) rfl (fun ls hl => ?_)
  exact w_fM_greaterBy_b4 C N x l1 0 0 _ _ _ hI (lv_sub hl [2, 3, 1, 0] rfl) hf
/-! wrote()I -/
abbrev rmM_wrote : Room := { frames := 3, cells := 0, slots := 0, locals := 70 }
def fM_wrote_b17 (N : Nat) : Nat → MS → Int32 → Int32 → Option (Int32 × MS)
  | 0, _, _, _ => none
  | n + 1, x, l1, l2 =>
  if 100 ≤ l2 then
    some (l1, x)
  else
    b2 (fM_greaterBy N x l2) fun v2 x1 =>
    b2 (fM_greaterBy N x1 l1) fun v4 x3 =>
    if v4 ≤ v2 then
      fM_wrote_b17 N n x3 l1 (l2 + 1)
    else
      fM_wrote_b17 N n x3 l2 (l2 + 1)
theorem w_fM_wrote_b17 {N : Nat} {r : Int32} {xr : MS} (C : mC w A p s m args meth c cX3_wrote 3 (some .int)) : ∀ (n : Nat) (x : MS) (l1 : Int32) (l2 : Int32) (H : Heap) (locs : List Loc) (ls : Array Slot), mI w A x s.heap H locs → lv_has ls 3 [(0, .ref (w.2.2.1 28)), (1, .int l1), (2, .int l2)] → fM_wrote_b17 N n x l1 l2 = some (r, xr) → W p l e rmM_wrote s m args below meth c H locs 0 0 (MQ below (mQ w A (some (.int r)) xr) args s 0 0 A) (F0 m 17 ls []) := by
  have hx := C.1.1
  have hb := C.1.2.1
  have hown := C.1.2.2.2.1
  have hts := C.1.2.2.2.2.1
  have hE := C.2.2
  intro n
  induction n with
  | zero => intro x l1 l2 H locs ls hI hl hf; rw [fM_wrote_b17] at hf; cases hf
  | succ n ih =>
  intro x l1 l2 H locs ls hI hl hf
  rw [fM_wrote_b17] at hf
  refine lv_iload_n hx hb dX3_wrote_17 rfl (lv_at hl 2 rfl) ?_
  refine lv_bipush (v := 100) hx hb dX3_wrote_18 (by decide) ?_
  refine b_icge (tgt := 44) hx hb hf dX3_wrote_20 (by decide) (fun hf => ?_) (fun hf => ?_)
  · refine lv_iload_n hx hb dX3_wrote_44 rfl (lv_at hl 1 rfl) ?_
    exact m_iret C hI hf dX3_wrote_45
  · refine lv_aload_n hx hb dX3_wrote_23 rfl (lv_at hl 0 rfl) ?_
    refine lv_iload_n hx hb dX3_wrote_24 rfl (lv_at hl 2 rfl) ?_
    refine m_calli (rest := []) C hI hf (mm_greaterBy l N _ _) rfl cqM_greaterBy ⟨rfl, rfl⟩ ⟨Nat.le_of_ble_eq_true rfl, Nat.le_of_ble_eq_true rfl⟩ rfl hl.1 rfl (Nat.le_of_ble_eq_true rfl) dX3_wrote_25 (fun v2 x1 H locs hI hf => ?_)
    refine lv_aload_n hx hb dX3_wrote_28 rfl (lv_at hl 0 rfl) ?_
    refine lv_iload_n hx hb dX3_wrote_29 rfl (lv_at hl 1 rfl) ?_
    refine m_calli (rest := [.int v2]) C hI hf (mm_greaterBy l N _ _) rfl cqM_greaterBy ⟨rfl, rfl⟩ ⟨Nat.le_of_ble_eq_true rfl, Nat.le_of_ble_eq_true rfl⟩ rfl hl.1 rfl (Nat.le_of_ble_eq_true rfl) dX3_wrote_30 (fun v4 x3 H locs hI hf => ?_)
    refine b_icge (tgt := 38) hx hb hf dX3_wrote_33 (by decide) (fun hf => ?_) (fun hf => ?_)
    · refine lv_iinc (v := l2 + 1) (lv' := [(2, .int (l2 + 1)), (0, .ref (w.2.2.1 28)), (1, .int l1)]) hx hb dX3_wrote_38 hl (k := 2) rfl rfl (by decide) rfl (fun ls hl => ?_)
      refine lv_goto (tgt := 17) hx hb dX3_wrote_41 (by decide) ?_
      exact ih x3 l1 (l2 + 1) _ _ _ hI (lv_sub hl [1, 2, 0] rfl) hf
    · refine lv_iload_n hx hb dX3_wrote_36 rfl (lv_at hl 2 rfl) ?_
      refine lv_istore_n (lv' := [(1, .int l2), (0, .ref (w.2.2.1 28)), (2, .int l2)]) hx hb dX3_wrote_37 rfl hl (by decide) rfl (fun ls hl => ?_)
      refine lv_iinc (v := l2 + 1) (lv' := [(2, .int (l2 + 1)), (1, .int l2), (0, .ref (w.2.2.1 28))]) hx hb dX3_wrote_38 hl (k := 2) rfl rfl (by decide) rfl (fun ls hl => ?_)
      refine lv_goto (tgt := 17) hx hb dX3_wrote_41 (by decide) ?_
      exact ih x3 l2 (l2 + 1) _ _ _ hI (lv_sub hl [2, 1, 0] rfl) hf
def fM_wrote (N : Nat) (x : MS) : Option (Int32 × MS) :=
  if 2 ≤ (gA x 0 88) then
    fM_wrote_b17 N N x 0 1
  else
    some ((-1), x)
theorem mm_wrote (l : Launch) (N : Nat) {w : mO} {A : Nat → Prop} : ∀ (x : MS) (r : Int32) (xr : MS), fM_wrote N x  = some (r, xr) → mMet l yX3_wrote (ws_ yX3_wrote cX3_wrote 3 (some .int)) rmM_wrote [.ref (w.2.2.1 28)] w A x (some (.int r)) xr := by
  intro x  r xr hf
  refine m_start (cc := cX3_wrote) (by decide +kernel) rfl (Nat.le_of_ble_eq_true rfl) rfl ?_
  intro p e s m args below meth c ls H locs C hI hl
  have hx := C.1.1
  have hb := C.1.2.1
  have hown := C.1.2.2.2.1
  have hts := C.1.2.2.2.2.1
  have hE := C.2.2
  rw [fM_wrote] at hf
  refine lv_aload_n hx hb dX3_wrote_0 rfl (lv_at hl 0 rfl) ?_
  refine mg0 C hI dX3_wrote_1 ?_
  refine lv_bipush (v := 88) hx hb dX3_wrote_4 (by decide) ?_
  refine mac0 C hI rc1725_88 dX3_wrote_6 ?_
  refine lv_iconst (v := 2) hx hb dX3_wrote_7 (by decide) ?_
  refine b_icge (tgt := 13) hx hb hf dX3_wrote_8 (by decide) (fun hf => ?_) (fun hf => ?_)
  · refine lv_iconst (v := 0) hx hb dX3_wrote_13 (by decide) ?_
    refine lv_istore_n (lv' := [(1, .int 0), (0, .ref (w.2.2.1 28))]) hx hb dX3_wrote_14 rfl hl (by decide) rfl (fun ls hl => ?_)
    refine lv_iconst (v := 1) hx hb dX3_wrote_15 (by decide) ?_
    refine lv_istore_n (lv' := [(2, .int 1), (1, .int 0), (0, .ref (w.2.2.1 28))]) hx hb dX3_wrote_16 rfl hl (by decide) rfl (fun ls hl => ?_)
    exact w_fM_wrote_b17 C N x 0 1 _ _ _ hI (lv_sub hl [2, 1, 0] rfl) hf
  · refine lv_iconst (v := (-1)) hx hb dX3_wrote_11 (by decide) ?_
    exact m_iret C hI hf dX3_wrote_12
/-! slowest()I -/
abbrev rmM_slowest : Room := { frames := 5, cells := 0, slots := 0, locals := 116 }
def fM_slowest_b4 (N : Nat) : Nat → MS → Int32 → Int32 → Option (Int32 × MS)
  | 0, _, _, _ => none
  | n + 1, x, l1, l2 =>
  if (gA x 0 88) ≤ l2 then
    some (l1, x)
  else
    b2 (fM_hasMoved N x l2) fun v2 x1 =>
    if v2 = 0 then
      if l1 = (-1) then
        fM_slowest_b4 N n x1 l2 (l2 + 1)
      else
        b2 (fM_readyOf N x1 l2) fun v4 x3 =>
        b2 (fM_readyOf N x3 l1) fun v6 x5 =>
        if v6 ≤ v4 then
          fM_slowest_b4 N n x5 l1 (l2 + 1)
        else
          fM_slowest_b4 N n x5 l2 (l2 + 1)
    else
      fM_slowest_b4 N n x1 l1 (l2 + 1)
theorem w_fM_slowest_b4 {N : Nat} {r : Int32} {xr : MS} (C : mC w A p s m args meth c cX3_slowest 3 (some .int)) : ∀ (n : Nat) (x : MS) (l1 : Int32) (l2 : Int32) (H : Heap) (locs : List Loc) (ls : Array Slot), mI w A x s.heap H locs → lv_has ls 3 [(0, .ref (w.2.2.1 28)), (1, .int l1), (2, .int l2)] → fM_slowest_b4 N n x l1 l2 = some (r, xr) → W p l e rmM_slowest s m args below meth c H locs 0 0 (MQ below (mQ w A (some (.int r)) xr) args s 0 0 A) (F0 m 4 ls []) := by
  have hx := C.1.1
  have hb := C.1.2.1
  have hown := C.1.2.2.2.1
  have hts := C.1.2.2.2.2.1
  have hE := C.2.2
  intro n
  induction n with
  | zero => intro x l1 l2 H locs ls hI hl hf; rw [fM_slowest_b4] at hf; cases hf
  | succ n ih =>
  intro x l1 l2 H locs ls hI hl hf
  rw [fM_slowest_b4] at hf
  refine lv_iload_n hx hb dX3_slowest_4 rfl (lv_at hl 2 rfl) ?_
  refine lv_aload_n hx hb dX3_slowest_5 rfl (lv_at hl 0 rfl) ?_
  refine mg0 C hI dX3_slowest_6 ?_
  refine lv_bipush (v := 88) hx hb dX3_slowest_9 (by decide) ?_
  refine mac0 C hI rc1725_88 dX3_slowest_11 ?_
  refine b_icge (tgt := 49) hx hb hf dX3_slowest_12 (by decide) (fun hf => ?_) (fun hf => ?_)
  · refine lv_iload_n hx hb dX3_slowest_49 rfl (lv_at hl 1 rfl) ?_
    exact m_iret C hI hf dX3_slowest_50
  · refine lv_aload_n hx hb dX3_slowest_15 rfl (lv_at hl 0 rfl) ?_
    refine lv_iload_n hx hb dX3_slowest_16 rfl (lv_at hl 2 rfl) ?_
    refine m_calli (rest := []) C hI hf (mm_hasMoved l N _ _) rfl cqM_hasMoved ⟨rfl, rfl⟩ ⟨Nat.le_of_ble_eq_true rfl, Nat.le_of_ble_eq_true rfl⟩ rfl hl.1 rfl (Nat.le_of_ble_eq_true rfl) dX3_slowest_17 (fun v2 x1 H locs hI hf => ?_)
    refine b_ifne (tgt := 43) hx hb hf dX3_slowest_20 (by decide) (fun hf => ?_) (fun hf => ?_)
    · refine lv_iinc (v := l2 + 1) (lv' := [(2, .int (l2 + 1)), (0, .ref (w.2.2.1 28)), (1, .int l1)]) hx hb dX3_slowest_43 hl (k := 2) rfl rfl (by decide) rfl (fun ls hl => ?_)
      refine lv_goto (tgt := 4) hx hb dX3_slowest_46 (by decide) ?_
      exact ih x1 l1 (l2 + 1) _ _ _ hI (lv_sub hl [1, 2, 0] rfl) hf
    · refine lv_iload_n hx hb dX3_slowest_23 rfl (lv_at hl 1 rfl) ?_
      refine lv_iconst (v := (-1)) hx hb dX3_slowest_24 (by decide) ?_
      refine b_iceq (tgt := 41) hx hb hf dX3_slowest_25 (by decide) (fun hf => ?_) (fun hf => ?_)
      · refine lv_iload_n hx hb dX3_slowest_41 rfl (lv_at hl 2 rfl) ?_
        refine lv_istore_n (lv' := [(1, .int l2), (0, .ref (w.2.2.1 28)), (2, .int l2)]) hx hb dX3_slowest_42 rfl hl (by decide) rfl (fun ls hl => ?_)
        refine lv_iinc (v := l2 + 1) (lv' := [(2, .int (l2 + 1)), (1, .int l2), (0, .ref (w.2.2.1 28))]) hx hb dX3_slowest_43 hl (k := 2) rfl rfl (by decide) rfl (fun ls hl => ?_)
        refine lv_goto (tgt := 4) hx hb dX3_slowest_46 (by decide) ?_
        exact ih x1 l2 (l2 + 1) _ _ _ hI (lv_sub hl [2, 1, 0] rfl) hf
      · refine lv_aload_n hx hb dX3_slowest_28 rfl (lv_at hl 0 rfl) ?_
        refine lv_iload_n hx hb dX3_slowest_29 rfl (lv_at hl 2 rfl) ?_
        refine m_calli (rest := []) C hI hf (mm_readyOf l N _ _) rfl cqM_readyOf ⟨rfl, rfl⟩ ⟨Nat.le_of_ble_eq_true rfl, Nat.le_of_ble_eq_true rfl⟩ rfl hl.1 rfl (Nat.le_of_ble_eq_true rfl) dX3_slowest_30 (fun v4 x3 H locs hI hf => ?_)
        refine lv_aload_n hx hb dX3_slowest_33 rfl (lv_at hl 0 rfl) ?_
        refine lv_iload_n hx hb dX3_slowest_34 rfl (lv_at hl 1 rfl) ?_
        refine m_calli (rest := [.int v4]) C hI hf (mm_readyOf l N _ _) rfl cqM_readyOf ⟨rfl, rfl⟩ ⟨Nat.le_of_ble_eq_true rfl, Nat.le_of_ble_eq_true rfl⟩ rfl hl.1 rfl (Nat.le_of_ble_eq_true rfl) dX3_slowest_35 (fun v6 x5 H locs hI hf => ?_)
        refine b_icge (tgt := 43) hx hb hf dX3_slowest_38 (by decide) (fun hf => ?_) (fun hf => ?_)
        · refine lv_iinc (v := l2 + 1) (lv' := [(2, .int (l2 + 1)), (0, .ref (w.2.2.1 28)), (1, .int l1)]) hx hb dX3_slowest_43 hl (k := 2) rfl rfl (by decide) rfl (fun ls hl => ?_)
          refine lv_goto (tgt := 4) hx hb dX3_slowest_46 (by decide) ?_
          exact ih x5 l1 (l2 + 1) _ _ _ hI (lv_sub hl [1, 2, 0] rfl) hf
        · refine lv_iload_n hx hb dX3_slowest_41 rfl (lv_at hl 2 rfl) ?_
          refine lv_istore_n (lv' := [(1, .int l2), (0, .ref (w.2.2.1 28)), (2, .int l2)]) hx hb dX3_slowest_42 rfl hl (by decide) rfl (fun ls hl => ?_)
          refine lv_iinc (v := l2 + 1) (lv' := [(2, .int (l2 + 1)), (1, .int l2), (0, .ref (w.2.2.1 28))]) hx hb dX3_slowest_43 hl (k := 2) rfl rfl (by decide) rfl (fun ls hl => ?_)
          refine lv_goto (tgt := 4) hx hb dX3_slowest_46 (by decide) ?_
          exact ih x5 l2 (l2 + 1) _ _ _ hI (lv_sub hl [2, 1, 0] rfl) hf
def fM_slowest (N : Nat) (x : MS) : Option (Int32 × MS) :=
  fM_slowest_b4 N N x (-1) 0
theorem mm_slowest (l : Launch) (N : Nat) {w : mO} {A : Nat → Prop} : ∀ (x : MS) (r : Int32) (xr : MS), fM_slowest N x  = some (r, xr) → mMet l yX3_slowest (ws_ yX3_slowest cX3_slowest 3 (some .int)) rmM_slowest [.ref (w.2.2.1 28)] w A x (some (.int r)) xr := by
  intro x  r xr hf
  refine m_start (cc := cX3_slowest) (by decide +kernel) rfl (Nat.le_of_ble_eq_true rfl) rfl ?_
  intro p e s m args below meth c ls H locs C hI hl
  have hx := C.1.1
  have hb := C.1.2.1
  have hown := C.1.2.2.2.1
  have hts := C.1.2.2.2.2.1
  have hE := C.2.2
  rw [fM_slowest] at hf
  refine lv_iconst (v := (-1)) hx hb dX3_slowest_0 (by decide) ?_
  refine lv_istore_n (lv' := [(1, .int (-1)), (0, .ref (w.2.2.1 28))]) hx hb dX3_slowest_1 rfl hl (by decide) rfl (fun ls hl => ?_)
  refine lv_iconst (v := 0) hx hb dX3_slowest_2 (by decide) ?_
  refine lv_istore_n (lv' := [(2, .int 0), (1, .int (-1)), (0, .ref (w.2.2.1 28))]) hx hb dX3_slowest_3 rfl hl (by decide) rfl (fun ls hl => ?_)
  exact w_fM_slowest_b4 C N x (-1) 0 _ _ _ hI (lv_sub hl [2, 1, 0] rfl) hf
/-! heapOf(I)I -/
abbrev rmM_heapOf : Room := { frames := 1, cells := 0, slots := 0, locals := 21 }
def fM_heapOf (N : Nat) (x : MS) (l1 : Int32) : Option (Int32 × MS) :=
  b2 (fM_hasMoved N x l1) fun v2 x1 =>
  if v2 = 0 then
    (rd 1725 (gA x1 0) (93 + l1)).bind fun v3 =>
    some (v3, x1)
  else
    some (0, x1)
theorem mm_heapOf (l : Launch) (N : Nat) {w : mO} {A : Nat → Prop} : ∀ (x : MS) (l1 : Int32) (r : Int32) (xr : MS), fM_heapOf N x l1 = some (r, xr) → mMet l yX3_heapOf (ws_ yX3_heapOf cX3_heapOf 2 (some .int)) rmM_heapOf [.ref (w.2.2.1 28), .int l1] w A x (some (.int r)) xr := by
  intro x l1 r xr hf
  refine m_start (cc := cX3_heapOf) (by decide +kernel) rfl (Nat.le_of_ble_eq_true rfl) rfl ?_
  intro p e s m args below meth c ls H locs C hI hl
  have hx := C.1.1
  have hb := C.1.2.1
  have hown := C.1.2.2.2.1
  have hts := C.1.2.2.2.2.1
  have hE := C.2.2
  rw [fM_heapOf] at hf
  refine lv_aload_n hx hb dX3_heapOf_0 rfl (lv_at hl 0 rfl) ?_
  refine lv_iload_n hx hb dX3_heapOf_1 rfl (lv_at hl 1 rfl) ?_
  refine m_calli (rest := []) C hI hf (mm_hasMoved l N _ _) rfl cqM_hasMoved ⟨rfl, rfl⟩ ⟨Nat.le_of_ble_eq_true rfl, Nat.le_of_ble_eq_true rfl⟩ rfl hl.1 rfl (Nat.le_of_ble_eq_true rfl) dX3_heapOf_2 (fun v2 x1 H locs hI hf => ?_)
  refine b_ifeq (tgt := 12) hx hb hf dX3_heapOf_5 (by decide) (fun hf => ?_) (fun hf => ?_)
  · refine lv_aload_n hx hb dX3_heapOf_12 rfl (lv_at hl 0 rfl) ?_
    refine mg0 C hI dX3_heapOf_13 ?_
    refine lv_bipush (v := 93) hx hb dX3_heapOf_16 (by decide) ?_
    refine lv_iload_n hx hb dX3_heapOf_18 rfl (lv_at hl 1 rfl) ?_
    refine lv_iadd hx hb dX3_heapOf_19 ?_
    refine ma0 C hI hf dX3_heapOf_20 (fun v3 hf => ?_)
    exact m_iret C hI hf dX3_heapOf_21
  · refine lv_iconst (v := 0) hx hb dX3_heapOf_8 (by decide) ?_
    refine lv_goto (tgt := 21) hx hb dX3_heapOf_9 (by decide) ?_
    exact m_iret C hI hf dX3_heapOf_21
/-! game(I)I -/
abbrev rmM_game : Room := { frames := 2, cells := 0, slots := 0, locals := 42 }
def fM_game_b58 (N : Nat) (k44 : MS → Int32 → Int32 → Int32 → Option (Int32 × MS)) : Nat → MS → Int32 → Int32 → Int32 → Int32 → Option (Int32 × MS)
  | 0, _, _, _, _, _ => none
  | n + 1, x, l1, l2, l3, l4 =>
  b2 (fM_heapOf N x l3) fun v2 x1 =>
  (fM_lesser N 3 v2).bind fun v3 =>
  if v3 < l4 then
    k44 x1 l1 l2 (l3 + 1)
  else
    b2 (fM_heapOf N x1 l3) fun v5 x4 =>
    (rm_ v5 4).bind fun v6 =>
    b2 (fM_heapOf N x4 l3) fun v8 x7 =>
    (rm_ (v8 - l4) 4).bind fun v9 =>
    if (l2 ^^^ v6) = v9 then
      lt (if l1 = 0 then l3 else l4 : Int32) fun v10 =>
      some (v10, x7)
    else
      fM_game_b58 N k44 n x7 l1 l2 l3 (l4 + 1)
theorem w_fM_game_b58 {N : Nat} {r : Int32} {xr : MS} {k44 : MS → Int32 → Int32 → Int32 → Option (Int32 × MS)} (C : mC w A p s m args meth c cX3_game 5 (some .int)) (hk44 : ∀ (x : MS) (l1 : Int32) (l2 : Int32) (l3 : Int32) (H : Heap) (locs : List Loc) (ls : Array Slot), mI w A x s.heap H locs → lv_has ls 5 [(0, .ref (w.2.2.1 28)), (1, .int l1), (2, .int l2), (3, .int l3)] → k44 x l1 l2 l3 = some (r, xr) → W p l e rmM_game s m args below meth c H locs 0 0 (MQ below (mQ w A (some (.int r)) xr) args s 0 0 A) (F0 m 44 ls [])) : ∀ (n : Nat) (x : MS) (l1 : Int32) (l2 : Int32) (l3 : Int32) (l4 : Int32) (H : Heap) (locs : List Loc) (ls : Array Slot), mI w A x s.heap H locs → lv_has ls 5 [(0, .ref (w.2.2.1 28)), (1, .int l1), (2, .int l2), (3, .int l3), (4, .int l4)] → fM_game_b58 N k44 n x l1 l2 l3 l4 = some (r, xr) → W p l e rmM_game s m args below meth c H locs 0 0 (MQ below (mQ w A (some (.int r)) xr) args s 0 0 A) (F0 m 58 ls []) := by
  have hx := C.1.1
  have hb := C.1.2.1
  have hown := C.1.2.2.2.1
  have hts := C.1.2.2.2.2.1
  have hE := C.2.2
  intro n
  induction n with
  | zero => intro x l1 l2 l3 l4 H locs ls hI hl hf; rw [fM_game_b58] at hf; cases hf
  | succ n ih =>
  intro x l1 l2 l3 l4 H locs ls hI hl hf
  rw [fM_game_b58] at hf
  refine lv_iload hx hb dX3_game_58 (lv_at hl 4 rfl) ?_
  refine lv_iconst (v := 3) hx hb dX3_game_60 (by decide) ?_
  refine lv_aload_n hx hb dX3_game_61 rfl (lv_at hl 0 rfl) ?_
  refine lv_iload_n hx hb dX3_game_62 rfl (lv_at hl 3 rfl) ?_
  refine m_calli (rest := [.int 3, .int l4]) C hI hf (mm_heapOf l N _ _) rfl cqM_heapOf ⟨rfl, rfl⟩ ⟨Nat.le_of_ble_eq_true rfl, Nat.le_of_ble_eq_true rfl⟩ rfl hl.1 rfl (Nat.le_of_ble_eq_true rfl) dX3_game_63 (fun v2 x1 H locs hI hf => ?_)
  refine g_calliS (rest := [.int l4]) C.1 hf (smM_lesser l N _ _) cqM_M_lesser ⟨rfl, rfl⟩ ⟨Nat.le_of_ble_eq_true rfl, Nat.le_of_ble_eq_true rfl⟩ rfl hl.1 rfl (Nat.le_of_ble_eq_true rfl) ⟨Nat.zero_le _, Nat.zero_le _⟩ dX3_game_66 (fun v3 hf => ?_)
  refine b_icgt (tgt := 111) hx hb hf dX3_game_69 (by decide) (fun hf => ?_) (fun hf => ?_)
  · refine lv_iinc (v := l3 + 1) (lv' := [(3, .int (l3 + 1)), (0, .ref (w.2.2.1 28)), (1, .int l1), (2, .int l2), (4, .int l4)]) hx hb dX3_game_111 hl (k := 3) rfl rfl (by decide) rfl (fun ls hl => ?_)
    refine lv_goto (tgt := 44) hx hb dX3_game_114 (by decide) ?_
    exact hk44 x1 l1 l2 (l3 + 1) _ _ _ hI (lv_sub hl [1, 2, 3, 0] rfl) hf
  · refine lv_iload_n hx hb dX3_game_72 rfl (lv_at hl 2 rfl) ?_
    refine lv_aload_n hx hb dX3_game_73 rfl (lv_at hl 0 rfl) ?_
    refine lv_iload_n hx hb dX3_game_74 rfl (lv_at hl 3 rfl) ?_
    refine m_calli (rest := [.int l2]) C hI hf (mm_heapOf l N _ _) rfl cqM_heapOf ⟨rfl, rfl⟩ ⟨Nat.le_of_ble_eq_true rfl, Nat.le_of_ble_eq_true rfl⟩ rfl hl.1 rfl (Nat.le_of_ble_eq_true rfl) dX3_game_75 (fun v5 x4 H locs hI hf => ?_)
    refine lv_iconst (v := 4) hx hb dX3_game_78 (by decide) ?_
    refine b_irem hx hb hf dX3_game_79 (fun v6 hf => ?_)
    refine lv_ixor hx hb dX3_game_80 ?_
    refine lv_aload_n hx hb dX3_game_81 rfl (lv_at hl 0 rfl) ?_
    refine lv_iload_n hx hb dX3_game_82 rfl (lv_at hl 3 rfl) ?_
    refine m_calli (rest := [.int (l2 ^^^ v6)]) C hI hf (mm_heapOf l N _ _) rfl cqM_heapOf ⟨rfl, rfl⟩ ⟨Nat.le_of_ble_eq_true rfl, Nat.le_of_ble_eq_true rfl⟩ rfl hl.1 rfl (Nat.le_of_ble_eq_true rfl) dX3_game_83 (fun v8 x7 H locs hI hf => ?_)
    refine lv_iload hx hb dX3_game_86 (lv_at hl 4 rfl) ?_
    refine lv_isub hx hb dX3_game_88 ?_
    refine lv_iconst (v := 4) hx hb dX3_game_89 (by decide) ?_
    refine b_irem hx hb hf dX3_game_90 (fun v9 hf => ?_)
    refine b_icne (tgt := 105) hx hb hf dX3_game_91 (by decide) (fun hf => ?_) (fun hf => ?_)
    · refine lv_iinc (v := l4 + 1) (lv' := [(4, .int (l4 + 1)), (0, .ref (w.2.2.1 28)), (1, .int l1), (2, .int l2), (3, .int l3)]) hx hb dX3_game_105 hl (k := 4) rfl rfl (by decide) rfl (fun ls hl => ?_)
      refine lv_goto (tgt := 58) hx hb dX3_game_108 (by decide) ?_
      exact ih x7 l1 l2 l3 (l4 + 1) _ _ _ hI (lv_sub hl [1, 2, 3, 4, 0] rfl) hf
    · refine lv_iload_n hx hb dX3_game_94 rfl (lv_at hl 1 rfl) ?_
      suffices hJ : ∀ v10 : Int32, (v10 = (if l1 = 0 then l3 else l4 : Int32)) → W p l e rmM_game s m args below meth c H locs 0 0 (MQ below (mQ w A (some (.int r)) xr) args s 0 0 A) (F0 m 104 ls [.int v10]) by
        refine lv_if_ne (tgt := 102) hx hb dX3_game_95 (by decide) (fun hc => ?_) (fun hc => ?_)
        · refine lv_iload hx hb dX3_game_102 (lv_at hl 4 rfl) ?_
          exact hJ _ (if_neg hc).symm
        · refine lv_iload_n hx hb dX3_game_98 rfl (lv_at hl 3 rfl) ?_
          refine lv_goto (tgt := 104) hx hb dX3_game_99 (by decide) ?_
          exact hJ _ (if_pos hc).symm
      intro v10 hv
      have hf := lt_of hv hf
      exact m_iret C hI hf dX3_game_104
def fM_game_b44 (N : Nat) : Nat → MS → Int32 → Int32 → Int32 → Option (Int32 × MS)
  | 0, _, _, _, _ => none
  | n + 1, x, l1, l2, l3 =>
  if (gA x 0 88) ≤ l3 then
    some ((-1), x)
  else
    fM_game_b58 N (fM_game_b44 N n) N x l1 l2 l3 1
theorem w_fM_game_b44 {N : Nat} {r : Int32} {xr : MS} (C : mC w A p s m args meth c cX3_game 5 (some .int)) : ∀ (n : Nat) (x : MS) (l1 : Int32) (l2 : Int32) (l3 : Int32) (H : Heap) (locs : List Loc) (ls : Array Slot), mI w A x s.heap H locs → lv_has ls 5 [(0, .ref (w.2.2.1 28)), (1, .int l1), (2, .int l2), (3, .int l3)] → fM_game_b44 N n x l1 l2 l3 = some (r, xr) → W p l e rmM_game s m args below meth c H locs 0 0 (MQ below (mQ w A (some (.int r)) xr) args s 0 0 A) (F0 m 44 ls []) := by
  have hx := C.1.1
  have hb := C.1.2.1
  have hown := C.1.2.2.2.1
  have hts := C.1.2.2.2.2.1
  have hE := C.2.2
  intro n
  induction n with
  | zero => intro x l1 l2 l3 H locs ls hI hl hf; rw [fM_game_b44] at hf; cases hf
  | succ n ih =>
  intro x l1 l2 l3 H locs ls hI hl hf
  rw [fM_game_b44] at hf
  refine lv_iload_n hx hb dX3_game_44 rfl (lv_at hl 3 rfl) ?_
  refine lv_aload_n hx hb dX3_game_45 rfl (lv_at hl 0 rfl) ?_
  refine mg0 C hI dX3_game_46 ?_
  refine lv_bipush (v := 88) hx hb dX3_game_49 (by decide) ?_
  refine mac0 C hI rc1725_88 dX3_game_51 ?_
  refine b_icge (tgt := 117) hx hb hf dX3_game_52 (by decide) (fun hf => ?_) (fun hf => ?_)
  · refine lv_iconst (v := (-1)) hx hb dX3_game_117 (by decide) ?_
    exact m_iret C hI hf dX3_game_118
  · refine lv_iconst (v := 1) hx hb dX3_game_55 (by decide) ?_
    refine lv_istore (lv' := [(4, .int 1), (0, .ref (w.2.2.1 28)), (1, .int l1), (2, .int l2), (3, .int l3)]) hx hb dX3_game_56 hl (by decide) rfl (fun ls hl => ?_)
    exact w_fM_game_b58 C ih N x l1 l2 l3 1 _ _ _ hI (lv_sub hl [1, 2, 3, 4, 0] rfl) hf
def fM_game_b15 (N : Nat) : Nat → MS → Int32 → Int32 → Int32 → Option (Int32 × MS)
  | 0, _, _, _, _ => none
  | n + 1, x, l1, l2, l3 =>
  if (gA x 0 88) ≤ l3 then
    fM_game_b44 N N x l1 l2 0
  else
    b2 (fM_heapOf N x l3) fun v2 x1 =>
    (rm_ v2 4).bind fun v3 =>
    fM_game_b15 N n x1 l1 (l2 ^^^ v3) (l3 + 1)
theorem w_fM_game_b15 {N : Nat} {r : Int32} {xr : MS} (C : mC w A p s m args meth c cX3_game 5 (some .int)) : ∀ (n : Nat) (x : MS) (l1 : Int32) (l2 : Int32) (l3 : Int32) (H : Heap) (locs : List Loc) (ls : Array Slot), mI w A x s.heap H locs → lv_has ls 5 [(0, .ref (w.2.2.1 28)), (1, .int l1), (2, .int l2), (3, .int l3)] → fM_game_b15 N n x l1 l2 l3 = some (r, xr) → W p l e rmM_game s m args below meth c H locs 0 0 (MQ below (mQ w A (some (.int r)) xr) args s 0 0 A) (F0 m 15 ls []) := by
  have hx := C.1.1
  have hb := C.1.2.1
  have hown := C.1.2.2.2.1
  have hts := C.1.2.2.2.2.1
  have hE := C.2.2
  intro n
  induction n with
  | zero => intro x l1 l2 l3 H locs ls hI hl hf; rw [fM_game_b15] at hf; cases hf
  | succ n ih =>
  intro x l1 l2 l3 H locs ls hI hl hf
  rw [fM_game_b15] at hf
  refine lv_iload_n hx hb dX3_game_15 rfl (lv_at hl 3 rfl) ?_
  refine lv_aload_n hx hb dX3_game_16 rfl (lv_at hl 0 rfl) ?_
  refine mg0 C hI dX3_game_17 ?_
  refine lv_bipush (v := 88) hx hb dX3_game_20 (by decide) ?_
  refine mac0 C hI rc1725_88 dX3_game_22 ?_
  refine b_icge (tgt := 42) hx hb hf dX3_game_23 (by decide) (fun hf => ?_) (fun hf => ?_)
  · refine lv_iconst (v := 0) hx hb dX3_game_42 (by decide) ?_
    refine lv_istore_n (lv' := [(3, .int 0), (0, .ref (w.2.2.1 28)), (1, .int l1), (2, .int l2)]) hx hb dX3_game_43 rfl hl (by decide) rfl (fun ls hl => ?_)
    exact w_fM_game_b44 C N x l1 l2 0 _ _ _ hI (lv_sub hl [1, 2, 3, 0] rfl) hf
  · refine lv_iload_n hx hb dX3_game_26 rfl (lv_at hl 2 rfl) ?_
    refine lv_aload_n hx hb dX3_game_27 rfl (lv_at hl 0 rfl) ?_
    refine lv_iload_n hx hb dX3_game_28 rfl (lv_at hl 3 rfl) ?_
    refine m_calli (rest := [.int l2]) C hI hf (mm_heapOf l N _ _) rfl cqM_heapOf ⟨rfl, rfl⟩ ⟨Nat.le_of_ble_eq_true rfl, Nat.le_of_ble_eq_true rfl⟩ rfl hl.1 rfl (Nat.le_of_ble_eq_true rfl) dX3_game_29 (fun v2 x1 H locs hI hf => ?_)
    refine lv_iconst (v := 4) hx hb dX3_game_32 (by decide) ?_
    refine b_irem hx hb hf dX3_game_33 (fun v3 hf => ?_)
    refine lv_ixor hx hb dX3_game_34 ?_
    refine lv_istore_n (lv' := [(2, .int (l2 ^^^ v3)), (0, .ref (w.2.2.1 28)), (1, .int l1), (3, .int l3)]) hx hb dX3_game_35 rfl hl (by decide) rfl (fun ls hl => ?_)
    refine lv_iinc (v := l3 + 1) (lv' := [(3, .int (l3 + 1)), (2, .int (l2 ^^^ v3)), (0, .ref (w.2.2.1 28)), (1, .int l1)]) hx hb dX3_game_36 hl (k := 3) rfl rfl (by decide) rfl (fun ls hl => ?_)
    refine lv_goto (tgt := 15) hx hb dX3_game_39 (by decide) ?_
    exact ih x1 l1 (l2 ^^^ v3) (l3 + 1) _ _ _ hI (lv_sub hl [2, 3, 1, 0] rfl) hf
def fM_game (N : Nat) (x : MS) (l1 : Int32) : Option (Int32 × MS) :=
  (fM_isIn N l1 0 1).bind fun v1 =>
  if v1 = 0 then
    some ((-1), x)
  else
    fM_game_b15 N N x l1 0 0
theorem mm_game (l : Launch) (N : Nat) {w : mO} {A : Nat → Prop} : ∀ (x : MS) (l1 : Int32) (r : Int32) (xr : MS), fM_game N x l1 = some (r, xr) → mMet l yX3_game (ws_ yX3_game cX3_game 5 (some .int)) rmM_game [.ref (w.2.2.1 28), .int l1] w A x (some (.int r)) xr := by
  intro x l1 r xr hf
  refine m_start (cc := cX3_game) (by decide +kernel) rfl (Nat.le_of_ble_eq_true rfl) rfl ?_
  intro p e s m args below meth c ls H locs C hI hl
  have hx := C.1.1
  have hb := C.1.2.1
  have hown := C.1.2.2.2.1
  have hts := C.1.2.2.2.2.1
  have hE := C.2.2
  rw [fM_game] at hf
  refine lv_iload_n hx hb dX3_game_0 rfl (lv_at hl 1 rfl) ?_
  refine lv_iconst (v := 0) hx hb dX3_game_1 (by decide) ?_
  refine lv_iconst (v := 1) hx hb dX3_game_2 (by decide) ?_
  refine g_calliS (rest := []) C.1 hf (smM_isIn l N _ _ _) cqM_M_isIn ⟨rfl, rfl⟩ ⟨Nat.le_of_ble_eq_true rfl, Nat.le_of_ble_eq_true rfl⟩ rfl hl.1 rfl (Nat.le_of_ble_eq_true rfl) ⟨Nat.zero_le _, Nat.zero_le _⟩ dX3_game_3 (fun v1 hf => ?_)
  refine b_ifne (tgt := 11) hx hb hf dX3_game_6 (by decide) (fun hf => ?_) (fun hf => ?_)
  · refine lv_iconst (v := 0) hx hb dX3_game_11 (by decide) ?_
    refine lv_istore_n (lv' := [(2, .int 0), (0, .ref (w.2.2.1 28)), (1, .int l1)]) hx hb dX3_game_12 rfl hl (by decide) rfl (fun ls hl => ?_)
    refine lv_iconst (v := 0) hx hb dX3_game_13 (by decide) ?_
    refine lv_istore_n (lv' := [(3, .int 0), (2, .int 0), (0, .ref (w.2.2.1 28)), (1, .int l1)]) hx hb dX3_game_14 rfl hl (by decide) rfl (fun ls hl => ?_)
    exact w_fM_game_b15 C N x l1 0 0 _ _ _ hI (lv_sub hl [2, 3, 1, 0] rfl) hf
  · refine lv_iconst (v := (-1)) hx hb dX3_game_9 (by decide) ?_
    exact m_iret C hI hf dX3_game_10
/-! image(Z)Z -/
abbrev rmM_image : Room := { frames := 1, cells := 0, slots := 0, locals := 20 }
def fM_image_b15 (N : Nat) : Nat → MS → Int32 → Int32 → Option (Int32 × MS)
  | 0, _, _, _ => none
  | n + 1, x, l1, l2 =>
  if 1725 ≤ l2 then
    if l1 = 0 then
      (fM_forgets N x).bind fun x1 =>
      some (1, sS x1 5 1)
    else
      some (1, sS x 5 1)
  else
    if l1 = 0 then
      (rd 1725 (gA x 1) l2).bind fun v2 =>
      (wr x 0 1725 l2 v2).bind fun x3 =>
      fM_image_b15 N n x3 l1 (l2 + 1)
    else
      (rd 1725 (gA x 0) l2).bind fun v4 =>
      (wr x 1 1725 l2 v4).bind fun x5 =>
      fM_image_b15 N n x5 l1 (l2 + 1)
theorem w_fM_image_b15 {N : Nat} {r : Int32} {xr : MS} (C : mC w A p s m args meth c cX3_image 3 (some .boolean)) : ∀ (n : Nat) (x : MS) (l1 : Int32) (l2 : Int32) (H : Heap) (locs : List Loc) (ls : Array Slot), mI w A x s.heap H locs → lv_has ls 3 [(0, .ref (w.2.2.1 28)), (1, .int l1), (2, .int l2)] → fM_image_b15 N n x l1 l2 = some (r, xr) → W p l e rmM_image s m args below meth c H locs 0 0 (MQ below (mQ w A (some (.int r)) xr) args s 0 0 A) (F0 m 15 ls []) := by
  have hx := C.1.1
  have hb := C.1.2.1
  have hown := C.1.2.2.2.1
  have hts := C.1.2.2.2.2.1
  have hE := C.2.2
  intro n
  induction n with
  | zero => intro x l1 l2 H locs ls hI hl hf; rw [fM_image_b15] at hf; cases hf
  | succ n ih =>
  intro x l1 l2 H locs ls hI hl hf
  rw [fM_image_b15] at hf
  refine lv_iload_n hx hb dX3_image_15 rfl (lv_at hl 2 rfl) ?_
  refine lv_sipush (v := 1725) hx hb dX3_image_16 (by decide) ?_
  refine b_icge (tgt := 59) hx hb hf dX3_image_19 (by decide) (fun hf => ?_) (fun hf => ?_)
  · refine lv_iload_n hx hb dX3_image_59 rfl (lv_at hl 1 rfl) ?_
    refine b_ifne (tgt := 67) hx hb hf dX3_image_60 (by decide) (fun hf => ?_) (fun hf => ?_)
    · refine lv_aload_n hx hb dX3_image_67 rfl (lv_at hl 0 rfl) ?_
      refine lv_iconst (v := 1) hx hb dX3_image_68 (by decide) ?_
      refine mp5 C hI rfl rfl dX3_image_69 (fun H locs hI => ?_)
      refine lv_iconst (v := 1) hx hb dX3_image_72 (by decide) ?_
      exact m_zretc C hI zb_1 hf dX3_image_73
    · refine lv_aload_n hx hb dX3_image_63 rfl (lv_at hl 0 rfl) ?_
      refine m_callv (rest := []) C hI hf (mm_forgets l N _) rfl cqM_forgets ⟨rfl, rfl⟩ ⟨Nat.le_of_ble_eq_true rfl, Nat.le_of_ble_eq_true rfl⟩ rfl hl.1 rfl (Nat.le_of_ble_eq_true rfl) dX3_image_64 (fun x1 H locs hI hf => ?_)
      refine lv_aload_n hx hb dX3_image_67 rfl (lv_at hl 0 rfl) ?_
      refine lv_iconst (v := 1) hx hb dX3_image_68 (by decide) ?_
      refine mp5 C hI rfl rfl dX3_image_69 (fun H locs hI => ?_)
      refine lv_iconst (v := 1) hx hb dX3_image_72 (by decide) ?_
      exact m_zretc C hI zb_1 hf dX3_image_73
  · refine lv_iload_n hx hb dX3_image_22 rfl (lv_at hl 1 rfl) ?_
    refine b_ifeq (tgt := 41) hx hb hf dX3_image_23 (by decide) (fun hf => ?_) (fun hf => ?_)
    · refine lv_aload_n hx hb dX3_image_41 rfl (lv_at hl 0 rfl) ?_
      refine mg0 C hI dX3_image_42 ?_
      refine lv_iload_n hx hb dX3_image_45 rfl (lv_at hl 2 rfl) ?_
      refine lv_aload_n hx hb dX3_image_46 rfl (lv_at hl 0 rfl) ?_
      refine mg1 C hI dX3_image_47 ?_
      refine lv_iload_n hx hb dX3_image_50 rfl (lv_at hl 2 rfl) ?_
      refine ma1 C hI hf dX3_image_51 (fun v2 hf => ?_)
      refine ms0 C hI hf dX3_image_52 (fun x3 H locs hI hf => ?_)
      refine lv_iinc (v := l2 + 1) (lv' := [(2, .int (l2 + 1)), (0, .ref (w.2.2.1 28)), (1, .int l1)]) hx hb dX3_image_53 hl (k := 2) rfl rfl (by decide) rfl (fun ls hl => ?_)
      refine lv_goto (tgt := 15) hx hb dX3_image_56 (by decide) ?_
      exact ih x3 l1 (l2 + 1) _ _ _ hI (lv_sub hl [1, 2, 0] rfl) hf
    · refine lv_aload_n hx hb dX3_image_26 rfl (lv_at hl 0 rfl) ?_
      refine mg1 C hI dX3_image_27 ?_
      refine lv_iload_n hx hb dX3_image_30 rfl (lv_at hl 2 rfl) ?_
      refine lv_aload_n hx hb dX3_image_31 rfl (lv_at hl 0 rfl) ?_
      refine mg0 C hI dX3_image_32 ?_
      refine lv_iload_n hx hb dX3_image_35 rfl (lv_at hl 2 rfl) ?_
      refine ma0 C hI hf dX3_image_36 (fun v4 hf => ?_)
      refine ms1 C hI hf dX3_image_37 (fun x5 H locs hI hf => ?_)
      refine lv_goto (tgt := 53) hx hb dX3_image_38 (by decide) ?_
      refine lv_iinc (v := l2 + 1) (lv' := [(2, .int (l2 + 1)), (0, .ref (w.2.2.1 28)), (1, .int l1)]) hx hb dX3_image_53 hl (k := 2) rfl rfl (by decide) rfl (fun ls hl => ?_)
      refine lv_goto (tgt := 15) hx hb dX3_image_56 (by decide) ?_
      exact ih x5 l1 (l2 + 1) _ _ _ hI (lv_sub hl [1, 2, 0] rfl) hf
def fM_image (N : Nat) (x : MS) (l1 : Int32) : Option (Int32 × MS) :=
  if l1 = 0 then
    if (gS x 5) = 0 then
      some (0, x)
    else
      fM_image_b15 N N x l1 0
  else
    fM_image_b15 N N x l1 0
theorem mm_image (l : Launch) (N : Nat) {w : mO} {A : Nat → Prop} : ∀ (x : MS) (l1 : Int32) (r : Int32) (xr : MS), fM_image N x l1 = some (r, xr) → mMet l yX3_image (ws_ yX3_image cX3_image 3 (some .boolean)) rmM_image [.ref (w.2.2.1 28), .int l1] w A x (some (.int r)) xr := by
  intro x l1 r xr hf
  refine m_start (cc := cX3_image) (by decide +kernel) rfl (Nat.le_of_ble_eq_true rfl) rfl ?_
  intro p e s m args below meth c ls H locs C hI hl
  have hx := C.1.1
  have hb := C.1.2.1
  have hown := C.1.2.2.2.1
  have hts := C.1.2.2.2.2.1
  have hE := C.2.2
  rw [fM_image] at hf
  refine lv_iload_n hx hb dX3_image_0 rfl (lv_at hl 1 rfl) ?_
  refine b_ifne (tgt := 13) hx hb hf dX3_image_1 (by decide) (fun hf => ?_) (fun hf => ?_)
  · refine lv_iconst (v := 0) hx hb dX3_image_13 (by decide) ?_
    refine lv_istore_n (lv' := [(2, .int 0), (0, .ref (w.2.2.1 28)), (1, .int l1)]) hx hb dX3_image_14 rfl hl (by decide) rfl (fun ls hl => ?_)
    exact w_fM_image_b15 C N x l1 0 _ _ _ hI (lv_sub hl [1, 2, 0] rfl) hf
  · refine lv_aload_n hx hb dX3_image_4 rfl (lv_at hl 0 rfl) ?_
    refine mg5 C hI dX3_image_5 ?_
    refine b_ifne (tgt := 13) hx hb hf dX3_image_8 (by decide) (fun hf => ?_) (fun hf => ?_)
    · refine lv_iconst (v := 0) hx hb dX3_image_13 (by decide) ?_
      refine lv_istore_n (lv' := [(2, .int 0), (0, .ref (w.2.2.1 28)), (1, .int l1)]) hx hb dX3_image_14 rfl hl (by decide) rfl (fun ls hl => ?_)
      exact w_fM_image_b15 C N x l1 0 _ _ _ hI (lv_sub hl [1, 2, 0] rfl) hf
    · refine lv_iconst (v := 0) hx hb dX3_image_11 (by decide) ?_
      exact m_zretc C hI zb_0 hf dX3_image_12
/-! look(I)I -/
abbrev rmM_look : Room := { frames := 2, cells := 0, slots := 0, locals := 43 }
def fM_look (N : Nat) (x : MS) (l1 : Int32) : Option (Int32 × MS) :=
  if l1 = 0 then
    some (gA x 0 88, x)
  else if l1 = 1 then
    some (gA x 0 0, x)
  else if l1 = 2 then
    some (gA x 0 1, x)
  else if l1 = 3 then
    b2 (fM_movedOnes N x) fun v6 x5 =>
    some (v6, x5)
  else if l1 = 4 then
    b2 (fM_bridgedOnes N x) fun v9 x8 =>
    some (v9, x8)
  else if l1 = 5 then
    if (gA x 0 88) = 0 then
      some (0, x)
    else
      b2 (fM_bridgedOnes N x) fun v12 x11 =>
      (fM_count N v12).bind fun v13 =>
      some (1 + v13, x11)
  else if l1 = 6 then
    some (gA x 0 3, x)
  else if l1 = 7 then
    some (gA x 0 2, x)
  else if l1 = 8 then
    some (gA x 0 89, x)
  else if l1 = 9 then
    some (gA x 0 90, x)
  else if l1 = 10 then
    some (gA x 0 91, x)
  else if l1 = 11 then
    some (gA x 0 92, x)
  else if l1 = 12 then
    some (gS x 4, x)
  else 
    some ((-1), x)
theorem mm_look (l : Launch) (N : Nat) {w : mO} {A : Nat → Prop} : ∀ (x : MS) (l1 : Int32) (r : Int32) (xr : MS), fM_look N x l1 = some (r, xr) → mMet l yX3_look (ws_ yX3_look cX3_look 2 (some .int)) rmM_look [.ref (w.2.2.1 28), .int l1] w A x (some (.int r)) xr := by
  intro x l1 r xr hf
  refine m_start (cc := cX3_look) (by decide +kernel) rfl (Nat.le_of_ble_eq_true rfl) rfl ?_
  intro p e s m args below meth c ls H locs C hI hl
  have hx := C.1.1
  have hb := C.1.2.1
  have hown := C.1.2.2.2.1
  have hts := C.1.2.2.2.2.1
  have hE := C.2.2
  rw [fM_look] at hf
  refine lv_iload_n hx hb dX3_look_0 rfl (lv_at hl 1 rfl) ?_
  refine b_tIn (k := 0) (j := 0) (tgt := 68) hx hb hf dX3_look_1 (by decide +kernel) rfl (by decide) (fun hf => ?_) (fun h1 hf => ?_)
  · refine lv_aload_n hx hb dX3_look_68 rfl (lv_at hl 0 rfl) ?_
    refine mg0 C hI dX3_look_69 ?_
    refine lv_bipush (v := 88) hx hb dX3_look_72 (by decide) ?_
    refine mac0 C hI rc1725_88 dX3_look_74 ?_
    exact m_iret C hI hf dX3_look_75
  refine b_tIn (k := 1) (j := 1) (tgt := 76) hx hb hf dX3_look_1 (by decide +kernel) rfl (by decide) (fun hf => ?_) (fun h2 hf => ?_)
  · refine lv_aload_n hx hb dX3_look_76 rfl (lv_at hl 0 rfl) ?_
    refine mg0 C hI dX3_look_77 ?_
    refine lv_iconst (v := 0) hx hb dX3_look_80 (by decide) ?_
    refine mac0 C hI rc1725_0 dX3_look_81 ?_
    exact m_iret C hI hf dX3_look_82
  refine b_tIn (k := 2) (j := 2) (tgt := 83) hx hb hf dX3_look_1 (by decide +kernel) rfl (by decide) (fun hf => ?_) (fun h3 hf => ?_)
  · refine lv_aload_n hx hb dX3_look_83 rfl (lv_at hl 0 rfl) ?_
    refine mg0 C hI dX3_look_84 ?_
    refine lv_iconst (v := 1) hx hb dX3_look_87 (by decide) ?_
    refine mac0 C hI rc1725_1 dX3_look_88 ?_
    exact m_iret C hI hf dX3_look_89
  refine b_tIn (k := 3) (j := 3) (tgt := 90) hx hb hf dX3_look_1 (by decide +kernel) rfl (by decide) (fun hf => ?_) (fun h4 hf => ?_)
  · refine lv_aload_n hx hb dX3_look_90 rfl (lv_at hl 0 rfl) ?_
    refine m_calli (rest := []) C hI hf (mm_movedOnes l N _) rfl cqM_movedOnes ⟨rfl, rfl⟩ ⟨Nat.le_of_ble_eq_true rfl, Nat.le_of_ble_eq_true rfl⟩ rfl hl.1 rfl (Nat.le_of_ble_eq_true rfl) dX3_look_91 (fun v6 x5 H locs hI hf => ?_)
    exact m_iret C hI hf dX3_look_94
  refine b_tIn (k := 4) (j := 4) (tgt := 95) hx hb hf dX3_look_1 (by decide +kernel) rfl (by decide) (fun hf => ?_) (fun h7 hf => ?_)
  · refine lv_aload_n hx hb dX3_look_95 rfl (lv_at hl 0 rfl) ?_
    refine m_calli (rest := []) C hI hf (mm_bridgedOnes l N _) rfl cqM_bridgedOnes ⟨rfl, rfl⟩ ⟨Nat.le_of_ble_eq_true rfl, Nat.le_of_ble_eq_true rfl⟩ rfl hl.1 rfl (Nat.le_of_ble_eq_true rfl) dX3_look_96 (fun v9 x8 H locs hI hf => ?_)
    exact m_iret C hI hf dX3_look_99
  refine b_tIn (k := 5) (j := 5) (tgt := 100) hx hb hf dX3_look_1 (by decide +kernel) rfl (by decide) (fun hf => ?_) (fun h10 hf => ?_)
  · refine lv_aload_n hx hb dX3_look_100 rfl (lv_at hl 0 rfl) ?_
    refine mg0 C hI dX3_look_101 ?_
    refine lv_bipush (v := 88) hx hb dX3_look_104 (by decide) ?_
    refine mac0 C hI rc1725_88 dX3_look_106 ?_
    refine b_ifne (tgt := 114) hx hb hf dX3_look_107 (by decide) (fun hf => ?_) (fun hf => ?_)
    · refine lv_iconst (v := 1) hx hb dX3_look_114 (by decide) ?_
      refine lv_aload_n hx hb dX3_look_115 rfl (lv_at hl 0 rfl) ?_
      refine m_calli (rest := [.int 1]) C hI hf (mm_bridgedOnes l N _) rfl cqM_bridgedOnes ⟨rfl, rfl⟩ ⟨Nat.le_of_ble_eq_true rfl, Nat.le_of_ble_eq_true rfl⟩ rfl hl.1 rfl (Nat.le_of_ble_eq_true rfl) dX3_look_116 (fun v12 x11 H locs hI hf => ?_)
      refine g_calliS (rest := [.int 1]) C.1 hf (smM_count l N _) cqM_M_count ⟨rfl, rfl⟩ ⟨Nat.le_of_ble_eq_true rfl, Nat.le_of_ble_eq_true rfl⟩ rfl hl.1 rfl (Nat.le_of_ble_eq_true rfl) ⟨Nat.zero_le _, Nat.zero_le _⟩ dX3_look_119 (fun v13 hf => ?_)
      refine lv_iadd hx hb dX3_look_122 ?_
      exact m_iret C hI hf dX3_look_123
    · refine lv_iconst (v := 0) hx hb dX3_look_110 (by decide) ?_
      refine lv_goto (tgt := 123) hx hb dX3_look_111 (by decide) ?_
      exact m_iret C hI hf dX3_look_123
  refine b_tIn (k := 6) (j := 6) (tgt := 124) hx hb hf dX3_look_1 (by decide +kernel) rfl (by decide) (fun hf => ?_) (fun h14 hf => ?_)
  · refine lv_aload_n hx hb dX3_look_124 rfl (lv_at hl 0 rfl) ?_
    refine mg0 C hI dX3_look_125 ?_
    refine lv_iconst (v := 3) hx hb dX3_look_128 (by decide) ?_
    refine mac0 C hI rc1725_3 dX3_look_129 ?_
    exact m_iret C hI hf dX3_look_130
  refine b_tIn (k := 7) (j := 7) (tgt := 131) hx hb hf dX3_look_1 (by decide +kernel) rfl (by decide) (fun hf => ?_) (fun h15 hf => ?_)
  · refine lv_aload_n hx hb dX3_look_131 rfl (lv_at hl 0 rfl) ?_
    refine mg0 C hI dX3_look_132 ?_
    refine lv_iconst (v := 2) hx hb dX3_look_135 (by decide) ?_
    refine mac0 C hI rc1725_2 dX3_look_136 ?_
    exact m_iret C hI hf dX3_look_137
  refine b_tIn (k := 8) (j := 8) (tgt := 138) hx hb hf dX3_look_1 (by decide +kernel) rfl (by decide) (fun hf => ?_) (fun h16 hf => ?_)
  · refine lv_aload_n hx hb dX3_look_138 rfl (lv_at hl 0 rfl) ?_
    refine mg0 C hI dX3_look_139 ?_
    refine lv_bipush (v := 89) hx hb dX3_look_142 (by decide) ?_
    refine mac0 C hI rc1725_89 dX3_look_144 ?_
    exact m_iret C hI hf dX3_look_145
  refine b_tIn (k := 9) (j := 9) (tgt := 146) hx hb hf dX3_look_1 (by decide +kernel) rfl (by decide) (fun hf => ?_) (fun h17 hf => ?_)
  · refine lv_aload_n hx hb dX3_look_146 rfl (lv_at hl 0 rfl) ?_
    refine mg0 C hI dX3_look_147 ?_
    refine lv_bipush (v := 90) hx hb dX3_look_150 (by decide) ?_
    refine mac0 C hI rc1725_90 dX3_look_152 ?_
    exact m_iret C hI hf dX3_look_153
  refine b_tIn (k := 10) (j := 10) (tgt := 154) hx hb hf dX3_look_1 (by decide +kernel) rfl (by decide) (fun hf => ?_) (fun h18 hf => ?_)
  · refine lv_aload_n hx hb dX3_look_154 rfl (lv_at hl 0 rfl) ?_
    refine mg0 C hI dX3_look_155 ?_
    refine lv_bipush (v := 91) hx hb dX3_look_158 (by decide) ?_
    refine mac0 C hI rc1725_91 dX3_look_160 ?_
    exact m_iret C hI hf dX3_look_161
  refine b_tIn (k := 11) (j := 11) (tgt := 162) hx hb hf dX3_look_1 (by decide +kernel) rfl (by decide) (fun hf => ?_) (fun h19 hf => ?_)
  · refine lv_aload_n hx hb dX3_look_162 rfl (lv_at hl 0 rfl) ?_
    refine mg0 C hI dX3_look_163 ?_
    refine lv_bipush (v := 92) hx hb dX3_look_166 (by decide) ?_
    refine mac0 C hI rc1725_92 dX3_look_168 ?_
    exact m_iret C hI hf dX3_look_169
  refine b_tIn (k := 12) (j := 12) (tgt := 170) hx hb hf dX3_look_1 (by decide +kernel) rfl (by decide) (fun hf => ?_) (fun h20 hf => ?_)
  · refine lv_aload_n hx hb dX3_look_170 rfl (lv_at hl 0 rfl) ?_
    refine mg4 C hI dX3_look_171 ?_
    exact m_iret C hI hf dX3_look_174
  have h1 : l1.toInt ≠ 0 := sw_ne h1
  have h2 : l1.toInt ≠ 1 := sw_ne h2
  have h3 : l1.toInt ≠ 2 := sw_ne h3
  have h4 : l1.toInt ≠ 3 := sw_ne h4
  have h7 : l1.toInt ≠ 4 := sw_ne h7
  have h10 : l1.toInt ≠ 5 := sw_ne h10
  have h14 : l1.toInt ≠ 6 := sw_ne h14
  have h15 : l1.toInt ≠ 7 := sw_ne h15
  have h16 : l1.toInt ≠ 8 := sw_ne h16
  have h17 : l1.toInt ≠ 9 := sw_ne h17
  have h18 : l1.toInt ≠ 10 := sw_ne h18
  have h19 : l1.toInt ≠ 11 := sw_ne h19
  have h20 : l1.toInt ≠ 12 := sw_ne h20
  refine lv_tableOut (tgt := 175) hx hb dX3_look_1 (by omega) (by decide) ?_
  refine lv_iconst (v := (-1)) hx hb dX3_look_175 (by decide) ?_
  exact m_iret C hI hf dX3_look_176
