set_option maxRecDepth 100000
variable {p : Program} {l : Launch} {e : Env} {R : Room} {s : State} {m : MethodId} {args : Array Value} {below : List Frame} {meth : Method} {c : Code} {H : Heap} {locs : List Loc} {Q : State → Prop}
variable {w : mO} {A : Nat → Prop}
/-! forgets()V -/
abbrev rmM_forgets : Room := { frames := 0, cells := 0, slots := 0, locals := 0 }
def fM_forgets (N : Nat) (x : MS) : Option MS :=
  some (sS x 4 0)
theorem mm_forgets (l : Launch) (N : Nat) {w : mO} {A : Nat → Prop} : ∀ (x : MS) (xr : MS), fM_forgets N x  = some xr → mMet l yX3_forgets (ws_ yX3_forgets cX3_forgets 1 none) rmM_forgets [.ref (w.2.2.1 28)] w A x none xr := by
  intro x  xr hf
  refine m_start (cc := cX3_forgets) (by decide +kernel) rfl (Nat.le_of_ble_eq_true rfl) rfl ?_
  intro p e s m args below meth c ls H locs C hI hl
  have hx := C.1.1
  have hb := C.1.2.1
  have hown := C.1.2.2.2.1
  have hts := C.1.2.2.2.2.1
  have hE := C.2.2
  rw [fM_forgets] at hf
  refine lv_aload_n hx hb dX3_forgets_0 rfl (lv_at hl 0 rfl) ?_
  refine lv_iconst (v := 0) hx hb dX3_forgets_1 (by decide) ?_
  refine mp4 C hI dX3_forgets_2 (fun H locs hI => ?_)
  exact m_vret C hI hf dX3_forgets_5
/-! state(I)I -/
abbrev rmM_state : Room := { frames := 1, cells := 0, slots := 0, locals := 20 }
def fM_state (N : Nat) (x : MS) (l1 : Int32) : Option (Int32 × MS) :=
  (wr x 0 1725 2 l1).bind fun x1 =>
  (fM_forgets N x1).bind fun x2 =>
  some (gA x 0 2, x2)
theorem mm_state (l : Launch) (N : Nat) {w : mO} {A : Nat → Prop} : ∀ (x : MS) (l1 : Int32) (r : Int32) (xr : MS), fM_state N x l1 = some (r, xr) → mMet l yX3_state (ws_ yX3_state cX3_state 3 (some .int)) rmM_state [.ref (w.2.2.1 28), .int l1] w A x (some (.int r)) xr := by
  intro x l1 r xr hf
  refine m_start (cc := cX3_state) (by decide +kernel) rfl (Nat.le_of_ble_eq_true rfl) rfl ?_
  intro p e s m args below meth c ls H locs C hI hl
  have hx := C.1.1
  have hb := C.1.2.1
  have hown := C.1.2.2.2.1
  have hts := C.1.2.2.2.2.1
  have hE := C.2.2
  rw [fM_state] at hf
  refine lv_aload_n hx hb dX3_state_0 rfl (lv_at hl 0 rfl) ?_
  refine mg0 C hI dX3_state_1 ?_
  refine lv_iconst (v := 2) hx hb dX3_state_4 (by decide) ?_
  refine mac0 C hI rc1725_2 dX3_state_5 ?_
  refine lv_istore_n (lv' := [(2, .int (gA x 0 2)), (0, .ref (w.2.2.1 28)), (1, .int l1)]) hx hb dX3_state_6 rfl hl (by decide) rfl (fun ls hl => ?_)
  refine lv_aload_n hx hb dX3_state_7 rfl (lv_at hl 1 rfl) ?_
  refine mg0 C hI dX3_state_8 ?_
  refine lv_iconst (v := 2) hx hb dX3_state_11 (by decide) ?_
  refine lv_iload_n hx hb dX3_state_12 rfl (lv_at hl 2 rfl) ?_
  refine ms0 C hI hf dX3_state_13 (fun x1 H locs hI hf => ?_)
  refine lv_aload_n hx hb dX3_state_14 rfl (lv_at hl 1 rfl) ?_
  refine m_callv (rest := []) C hI hf (mm_forgets l N _) rfl cqM_forgets ⟨rfl, rfl⟩ ⟨Nat.le_of_ble_eq_true rfl, Nat.le_of_ble_eq_true rfl⟩ rfl hl.1 rfl (Nat.le_of_ble_eq_true rfl) dX3_state_15 (fun x2 H locs hI hf => ?_)
  refine lv_iload_n hx hb dX3_state_18 rfl (lv_at hl 0 rfl) ?_
  exact m_iret C hI hf dX3_state_19
/-! link(IIII)I -/
abbrev rmM_link : Room := { frames := 1, cells := 0, slots := 0, locals := 22 }
def fM_link (N : Nat) (x : MS) (l1 : Int32) (l2 : Int32) (l3 : Int32) (l4 : Int32) : Option (Int32 × MS) :=
  (fM_isIn N l1 1 999).bind fun v1 =>
  if v1 = 0 then
    some ((-1), x)
  else
    (fM_isIn N l2 (-9999) 9999).bind fun v2 =>
    if v2 = 0 then
      some ((-1), x)
    else
      (fM_isIn N l3 (-999) 999).bind fun v3 =>
      if v3 = 0 then
        some ((-1), x)
      else
        (fM_isIn N l4 0 9).bind fun v4 =>
        if v4 = 0 then
          some ((-1), x)
        else
          if (gA x 0 88) = 12 then
            some ((-1), x)
          else
            (wr x 0 1725 (4 + (gA x 0 88)) l1).bind fun x5 =>
            (wr x5 0 1725 (16 + (gA x 0 88)) l2).bind fun x6 =>
            (wr x6 0 1725 (28 + (gA x 0 88)) l3).bind fun x7 =>
            (wr x7 0 1725 (93 + (gA x 0 88)) l4).bind fun x8 =>
            (wr x8 0 1725 (40 + (gA x 0 88)) 0).bind fun x9 =>
            (wr x9 0 1725 (52 + (gA x 0 88)) 0).bind fun x10 =>
            (wr x10 0 1725 (64 + (gA x 0 88)) 0).bind fun x11 =>
            (wr x11 0 1725 (76 + (gA x 0 88)) (-1)).bind fun x12 =>
            (wr x12 0 1725 (105 + (2 * (gA x 0 88))) 0).bind fun x13 =>
            (wr x13 0 1725 ((105 + (2 * (gA x 0 88))) + 1) 240).bind fun x14 =>
            (wr x14 0 1725 88 ((gA x14 0 88) + 1)).bind fun x15 =>
            (fM_forgets N x15).bind fun x16 =>
            some (gA x 0 88, x16)
theorem mm_link (l : Launch) (N : Nat) {w : mO} {A : Nat → Prop} : ∀ (x : MS) (l1 : Int32) (l2 : Int32) (l3 : Int32) (l4 : Int32) (r : Int32) (xr : MS), fM_link N x l1 l2 l3 l4 = some (r, xr) → mMet l yX3_link (ws_ yX3_link cX3_link 6 (some .int)) rmM_link [.ref (w.2.2.1 28), .int l1, .int l2, .int l3, .int l4] w A x (some (.int r)) xr := by
  intro x l1 l2 l3 l4 r xr hf
  refine m_start (cc := cX3_link) (by decide +kernel) rfl (Nat.le_of_ble_eq_true rfl) rfl ?_
  intro p e s m args below meth c ls H locs C hI hl
  have hx := C.1.1
  have hb := C.1.2.1
  have hown := C.1.2.2.2.1
  have hts := C.1.2.2.2.2.1
  have hE := C.2.2
  rw [fM_link] at hf
  refine lv_iload_n hx hb dX3_link_0 rfl (lv_at hl 1 rfl) ?_
  refine lv_iconst (v := 1) hx hb dX3_link_1 (by decide) ?_
  refine lv_sipush (v := 999) hx hb dX3_link_2 (by decide) ?_
  refine g_calliS (rest := []) C.1 hf (smM_isIn l N _ _ _) cqM_M_isIn ⟨rfl, rfl⟩ ⟨Nat.le_of_ble_eq_true rfl, Nat.le_of_ble_eq_true rfl⟩ rfl hl.1 rfl (Nat.le_of_ble_eq_true rfl) ⟨Nat.zero_le _, Nat.zero_le _⟩ dX3_link_5 (fun v1 hf => ?_)
  refine b_ifeq (tgt := 60) hx hb hf dX3_link_8 (by decide) (fun hf => ?_) (fun hf => ?_)
  · refine lv_iconst (v := (-1)) hx hb dX3_link_60 (by decide) ?_
    exact m_iret C hI hf dX3_link_61
  · refine lv_iload_n hx hb dX3_link_11 rfl (lv_at hl 2 rfl) ?_
    refine lv_sipush (v := (-9999)) hx hb dX3_link_12 (by decide) ?_
    refine lv_sipush (v := 9999) hx hb dX3_link_15 (by decide) ?_
    refine g_calliS (rest := []) C.1 hf (smM_isIn l N _ _ _) cqM_M_isIn ⟨rfl, rfl⟩ ⟨Nat.le_of_ble_eq_true rfl, Nat.le_of_ble_eq_true rfl⟩ rfl hl.1 rfl (Nat.le_of_ble_eq_true rfl) ⟨Nat.zero_le _, Nat.zero_le _⟩ dX3_link_18 (fun v2 hf => ?_)
    refine b_ifeq (tgt := 60) hx hb hf dX3_link_21 (by decide) (fun hf => ?_) (fun hf => ?_)
    · refine lv_iconst (v := (-1)) hx hb dX3_link_60 (by decide) ?_
      exact m_iret C hI hf dX3_link_61
    · refine lv_iload_n hx hb dX3_link_24 rfl (lv_at hl 3 rfl) ?_
      refine lv_sipush (v := (-999)) hx hb dX3_link_25 (by decide) ?_
      refine lv_sipush (v := 999) hx hb dX3_link_28 (by decide) ?_
      refine g_calliS (rest := []) C.1 hf (smM_isIn l N _ _ _) cqM_M_isIn ⟨rfl, rfl⟩ ⟨Nat.le_of_ble_eq_true rfl, Nat.le_of_ble_eq_true rfl⟩ rfl hl.1 rfl (Nat.le_of_ble_eq_true rfl) ⟨Nat.zero_le _, Nat.zero_le _⟩ dX3_link_31 (fun v3 hf => ?_)
      refine b_ifeq (tgt := 60) hx hb hf dX3_link_34 (by decide) (fun hf => ?_) (fun hf => ?_)
      · refine lv_iconst (v := (-1)) hx hb dX3_link_60 (by decide) ?_
        exact m_iret C hI hf dX3_link_61
      · refine lv_iload hx hb dX3_link_37 (lv_at hl 4 rfl) ?_
        refine lv_iconst (v := 0) hx hb dX3_link_39 (by decide) ?_
        refine lv_bipush (v := 9) hx hb dX3_link_40 (by decide) ?_
        refine g_calliS (rest := []) C.1 hf (smM_isIn l N _ _ _) cqM_M_isIn ⟨rfl, rfl⟩ ⟨Nat.le_of_ble_eq_true rfl, Nat.le_of_ble_eq_true rfl⟩ rfl hl.1 rfl (Nat.le_of_ble_eq_true rfl) ⟨Nat.zero_le _, Nat.zero_le _⟩ dX3_link_42 (fun v4 hf => ?_)
        refine b_ifeq (tgt := 60) hx hb hf dX3_link_45 (by decide) (fun hf => ?_) (fun hf => ?_)
        · refine lv_iconst (v := (-1)) hx hb dX3_link_60 (by decide) ?_
          exact m_iret C hI hf dX3_link_61
        · refine lv_aload_n hx hb dX3_link_48 rfl (lv_at hl 0 rfl) ?_
          refine mg0 C hI dX3_link_49 ?_
          refine lv_bipush (v := 88) hx hb dX3_link_52 (by decide) ?_
          refine mac0 C hI rc1725_88 dX3_link_54 ?_
          refine lv_bipush (v := 12) hx hb dX3_link_55 (by decide) ?_
          refine b_icne (tgt := 62) hx hb hf dX3_link_57 (by decide) (fun hf => ?_) (fun hf => ?_)
          · refine lv_aload_n hx hb dX3_link_62 rfl (lv_at hl 0 rfl) ?_
            refine mg0 C hI dX3_link_63 ?_
            refine lv_bipush (v := 88) hx hb dX3_link_66 (by decide) ?_
            refine mac0 C hI rc1725_88 dX3_link_68 ?_
            refine lv_istore (lv' := [(5, .int (gA x 0 88)), (0, .ref (w.2.2.1 28)), (1, .int l1), (2, .int l2), (3, .int l3), (4, .int l4)]) hx hb dX3_link_69 hl (by decide) rfl (fun ls hl => ?_)
            refine lv_aload_n hx hb dX3_link_71 rfl (lv_at hl 1 rfl) ?_
            refine mg0 C hI dX3_link_72 ?_
            refine lv_iconst (v := 4) hx hb dX3_link_75 (by decide) ?_
            refine lv_iload hx hb dX3_link_76 (lv_at hl 0 rfl) ?_
            refine lv_iadd hx hb dX3_link_78 ?_
            refine lv_iload_n hx hb dX3_link_79 rfl (lv_at hl 2 rfl) ?_
            refine ms0 C hI hf dX3_link_80 (fun x5 H locs hI hf => ?_)
            refine lv_aload_n hx hb dX3_link_81 rfl (lv_at hl 1 rfl) ?_
            refine mg0 C hI dX3_link_82 ?_
            refine lv_bipush (v := 16) hx hb dX3_link_85 (by decide) ?_
            refine lv_iload hx hb dX3_link_87 (lv_at hl 0 rfl) ?_
            refine lv_iadd hx hb dX3_link_89 ?_
            refine lv_iload_n hx hb dX3_link_90 rfl (lv_at hl 3 rfl) ?_
            refine ms0 C hI hf dX3_link_91 (fun x6 H locs hI hf => ?_)
            refine lv_aload_n hx hb dX3_link_92 rfl (lv_at hl 1 rfl) ?_
            refine mg0 C hI dX3_link_93 ?_
            refine lv_bipush (v := 28) hx hb dX3_link_96 (by decide) ?_
            refine lv_iload hx hb dX3_link_98 (lv_at hl 0 rfl) ?_
            refine lv_iadd hx hb dX3_link_100 ?_
            refine lv_iload_n hx hb dX3_link_101 rfl (lv_at hl 4 rfl) ?_
            refine ms0 C hI hf dX3_link_102 (fun x7 H locs hI hf => ?_)
            refine lv_aload_n hx hb dX3_link_103 rfl (lv_at hl 1 rfl) ?_
            refine mg0 C hI dX3_link_104 ?_
            refine lv_bipush (v := 93) hx hb dX3_link_107 (by decide) ?_
            refine lv_iload hx hb dX3_link_109 (lv_at hl 0 rfl) ?_
            refine lv_iadd hx hb dX3_link_111 ?_
            refine lv_iload hx hb dX3_link_112 (lv_at hl 5 rfl) ?_
            refine ms0 C hI hf dX3_link_114 (fun x8 H locs hI hf => ?_)
            refine lv_aload_n hx hb dX3_link_115 rfl (lv_at hl 1 rfl) ?_
            refine mg0 C hI dX3_link_116 ?_
            refine lv_bipush (v := 40) hx hb dX3_link_119 (by decide) ?_
            refine lv_iload hx hb dX3_link_121 (lv_at hl 0 rfl) ?_
            refine lv_iadd hx hb dX3_link_123 ?_
            refine lv_iconst (v := 0) hx hb dX3_link_124 (by decide) ?_
            refine ms0 C hI hf dX3_link_125 (fun x9 H locs hI hf => ?_)
            refine lv_aload_n hx hb dX3_link_126 rfl (lv_at hl 1 rfl) ?_
            refine mg0 C hI dX3_link_127 ?_
            refine lv_bipush (v := 52) hx hb dX3_link_130 (by decide) ?_
            refine lv_iload hx hb dX3_link_132 (lv_at hl 0 rfl) ?_
            refine lv_iadd hx hb dX3_link_134 ?_
            refine lv_iconst (v := 0) hx hb dX3_link_135 (by decide) ?_
            refine ms0 C hI hf dX3_link_136 (fun x10 H locs hI hf => ?_)
            refine lv_aload_n hx hb dX3_link_137 rfl (lv_at hl 1 rfl) ?_
            refine mg0 C hI dX3_link_138 ?_
            refine lv_bipush (v := 64) hx hb dX3_link_141 (by decide) ?_
            refine lv_iload hx hb dX3_link_143 (lv_at hl 0 rfl) ?_
            refine lv_iadd hx hb dX3_link_145 ?_
            refine lv_iconst (v := 0) hx hb dX3_link_146 (by decide) ?_
            refine ms0 C hI hf dX3_link_147 (fun x11 H locs hI hf => ?_)
            refine lv_aload_n hx hb dX3_link_148 rfl (lv_at hl 1 rfl) ?_
            refine mg0 C hI dX3_link_149 ?_
            refine lv_bipush (v := 76) hx hb dX3_link_152 (by decide) ?_
            refine lv_iload hx hb dX3_link_154 (lv_at hl 0 rfl) ?_
            refine lv_iadd hx hb dX3_link_156 ?_
            refine lv_iconst (v := (-1)) hx hb dX3_link_157 (by decide) ?_
            refine ms0 C hI hf dX3_link_158 (fun x12 H locs hI hf => ?_)
            refine lv_aload_n hx hb dX3_link_159 rfl (lv_at hl 1 rfl) ?_
            refine mg0 C hI dX3_link_160 ?_
            refine lv_bipush (v := 105) hx hb dX3_link_163 (by decide) ?_
            refine lv_iconst (v := 2) hx hb dX3_link_165 (by decide) ?_
            refine lv_iload hx hb dX3_link_166 (lv_at hl 0 rfl) ?_
            refine lv_imul hx hb dX3_link_168 ?_
            refine lv_iadd hx hb dX3_link_169 ?_
            refine lv_iconst (v := 0) hx hb dX3_link_170 (by decide) ?_
            refine ms0 C hI hf dX3_link_171 (fun x13 H locs hI hf => ?_)
            refine lv_aload_n hx hb dX3_link_172 rfl (lv_at hl 1 rfl) ?_
            refine mg0 C hI dX3_link_173 ?_
            refine lv_bipush (v := 105) hx hb dX3_link_176 (by decide) ?_
            refine lv_iconst (v := 2) hx hb dX3_link_178 (by decide) ?_
            refine lv_iload hx hb dX3_link_179 (lv_at hl 0 rfl) ?_
            refine lv_imul hx hb dX3_link_181 ?_
            refine lv_iadd hx hb dX3_link_182 ?_
            refine lv_iconst (v := 1) hx hb dX3_link_183 (by decide) ?_
            refine lv_iadd hx hb dX3_link_184 ?_
            refine lv_sipush (v := 240) hx hb dX3_link_185 (by decide) ?_
            refine ms0 C hI hf dX3_link_188 (fun x14 H locs hI hf => ?_)
            refine lv_aload_n hx hb dX3_link_189 rfl (lv_at hl 1 rfl) ?_
            refine mg0 C hI dX3_link_190 ?_
            refine lv_bipush (v := 88) hx hb dX3_link_193 (by decide) ?_
            refine lv_dup2_11 hx hb dX3_link_195 rfl rfl ?_
            refine mac0 C hI rc1725_88 dX3_link_196 ?_
            refine lv_iconst (v := 1) hx hb dX3_link_197 (by decide) ?_
            refine lv_iadd hx hb dX3_link_198 ?_
            refine ms0 C hI hf dX3_link_199 (fun x15 H locs hI hf => ?_)
            refine lv_aload_n hx hb dX3_link_200 rfl (lv_at hl 1 rfl) ?_
            refine m_callv (rest := []) C hI hf (mm_forgets l N _) rfl cqM_forgets ⟨rfl, rfl⟩ ⟨Nat.le_of_ble_eq_true rfl, Nat.le_of_ble_eq_true rfl⟩ rfl hl.1 rfl (Nat.le_of_ble_eq_true rfl) dX3_link_201 (fun x16 H locs hI hf => ?_)
            refine lv_iload hx hb dX3_link_204 (lv_at hl 0 rfl) ?_
            exact m_iret C hI hf dX3_link_206
          · refine lv_iconst (v := (-1)) hx hb dX3_link_60 (by decide) ?_
            exact m_iret C hI hf dX3_link_61
/-! isLink(I)Z -/
abbrev rmM_isLink : Room := { frames := 1, cells := 0, slots := 0, locals := 22 }
def fM_isLink (N : Nat) (x : MS) (l1 : Int32) : Option (Int32 × MS) :=
  (fM_isIn N l1 0 ((gA x 0 88) - 1)).bind fun v1 =>
  some (zb v1, x)
theorem mm_isLink (l : Launch) (N : Nat) {w : mO} {A : Nat → Prop} : ∀ (x : MS) (l1 : Int32) (r : Int32) (xr : MS), fM_isLink N x l1 = some (r, xr) → mMet l yX3_isLink (ws_ yX3_isLink cX3_isLink 2 (some .boolean)) rmM_isLink [.ref (w.2.2.1 28), .int l1] w A x (some (.int r)) xr := by
  intro x l1 r xr hf
  refine m_start (cc := cX3_isLink) (by decide +kernel) rfl (Nat.le_of_ble_eq_true rfl) rfl ?_
  intro p e s m args below meth c ls H locs C hI hl
  have hx := C.1.1
  have hb := C.1.2.1
  have hown := C.1.2.2.2.1
  have hts := C.1.2.2.2.2.1
  have hE := C.2.2
  rw [fM_isLink] at hf
  refine lv_iload_n hx hb dX3_isLink_0 rfl (lv_at hl 1 rfl) ?_
  refine lv_iconst (v := 0) hx hb dX3_isLink_1 (by decide) ?_
  refine lv_aload_n hx hb dX3_isLink_2 rfl (lv_at hl 0 rfl) ?_
  refine mg0 C hI dX3_isLink_3 ?_
  refine lv_bipush (v := 88) hx hb dX3_isLink_6 (by decide) ?_
  refine mac0 C hI rc1725_88 dX3_isLink_8 ?_
  refine lv_iconst (v := 1) hx hb dX3_isLink_9 (by decide) ?_
  refine lv_isub hx hb dX3_isLink_10 ?_
  refine g_calliS (rest := []) C.1 hf (smM_isIn l N _ _ _) cqM_M_isIn ⟨rfl, rfl⟩ ⟨Nat.le_of_ble_eq_true rfl, Nat.le_of_ble_eq_true rfl⟩ rfl hl.1 rfl (Nat.le_of_ble_eq_true rfl) ⟨Nat.zero_le _, Nat.zero_le _⟩ dX3_isLink_11 (fun v1 hf => ?_)
  exact m_zret C hI hf dX3_isLink_14
/-! set(III)Z -/
abbrev rmM_set : Room := { frames := 2, cells := 0, slots := 0, locals := 43 }
def fM_set_b62 (N : Nat) (x : MS) (l2 : Int32) (l3 : Int32) (s1 : Int32) : Option (Int32 × MS) :=
  (wr x 0 1725 (s1 + l2) l3).bind fun x1 =>
  (fM_forgets N x1).bind fun x2 =>
  some (1, x2)
theorem w_fM_set_b62 {N : Nat} {r : Int32} {xr : MS} (C : mC w A p s m args meth c cX3_set 4 (some .boolean)) : ∀ (x : MS) (l2 : Int32) (l3 : Int32) (s1 : Int32) (H : Heap) (locs : List Loc) (ls : Array Slot), mI w A x s.heap H locs → lv_has ls 4 [(0, .ref (w.2.2.1 28)), (2, .int l2), (3, .int l3)] → fM_set_b62 N x l2 l3 s1 = some (r, xr) → W p l e rmM_set s m args below meth c H locs 0 0 (MQ below (mQ w A (some (.int r)) xr) args s 0 0 A) (F0 m 62 ls [.int s1, .ref (w.2.2.1 0)]) := by
  have hx := C.1.1
  have hb := C.1.2.1
  have hown := C.1.2.2.2.1
  have hts := C.1.2.2.2.2.1
  have hE := C.2.2
  intro x l2 l3 s1 H locs ls hI hl hf
  rw [fM_set_b62] at hf
  refine lv_iload_n hx hb dX3_set_62 rfl (lv_at hl 1 rfl) ?_
  refine lv_iadd hx hb dX3_set_63 ?_
  refine lv_iload_n hx hb dX3_set_64 rfl (lv_at hl 2 rfl) ?_
  refine ms0 C hI hf dX3_set_65 (fun x1 H locs hI hf => ?_)
  refine lv_aload_n hx hb dX3_set_66 rfl (lv_at hl 0 rfl) ?_
  refine m_callv (rest := []) C hI hf (mm_forgets l N _) rfl cqM_forgets ⟨rfl, rfl⟩ ⟨Nat.le_of_ble_eq_true rfl, Nat.le_of_ble_eq_true rfl⟩ rfl hl.1 rfl (Nat.le_of_ble_eq_true rfl) dX3_set_67 (fun x2 H locs hI hf => ?_)
  refine lv_iconst (v := 1) hx hb dX3_set_70 (by decide) ?_
  exact m_zretc C hI zb_1 hf dX3_set_71
def fM_set (N : Nat) (x : MS) (l1 : Int32) (l2 : Int32) (l3 : Int32) : Option (Int32 × MS) :=
  b2 (fM_isLink N x l2) fun v2 x1 =>
  if v2 = 0 then
    some (0, x1)
  else
    (fM_canBe N l1 l3).bind fun v3 =>
    if v3 = 0 then
      some (0, x1)
    else
      if l1 = 0 then
        fM_set_b62 N x1 l2 l3 4
      else
        if l1 = 1 then
          fM_set_b62 N x1 l2 l3 16
        else
          if l1 = 2 then
            fM_set_b62 N x1 l2 l3 28
          else
            if l1 = 3 then
              fM_set_b62 N x1 l2 l3 93
            else
              fM_set_b62 N x1 l2 l3 40
theorem mm_set (l : Launch) (N : Nat) {w : mO} {A : Nat → Prop} : ∀ (x : MS) (l1 : Int32) (l2 : Int32) (l3 : Int32) (r : Int32) (xr : MS), fM_set N x l1 l2 l3 = some (r, xr) → mMet l yX3_set (ws_ yX3_set cX3_set 4 (some .boolean)) rmM_set [.ref (w.2.2.1 28), .int l1, .int l2, .int l3] w A x (some (.int r)) xr := by
  intro x l1 l2 l3 r xr hf
  refine m_start (cc := cX3_set) (by decide +kernel) rfl (Nat.le_of_ble_eq_true rfl) rfl ?_
  intro p e s m args below meth c ls H locs C hI hl
  have hx := C.1.1
  have hb := C.1.2.1
  have hown := C.1.2.2.2.1
  have hts := C.1.2.2.2.2.1
  have hE := C.2.2
  rw [fM_set] at hf
  refine lv_aload_n hx hb dX3_set_0 rfl (lv_at hl 0 rfl) ?_
  refine lv_iload_n hx hb dX3_set_1 rfl (lv_at hl 2 rfl) ?_
  refine m_calli (rest := []) C hI hf (mm_isLink l N _ _) rfl cqM_isLink ⟨rfl, rfl⟩ ⟨Nat.le_of_ble_eq_true rfl, Nat.le_of_ble_eq_true rfl⟩ rfl hl.1 rfl (Nat.le_of_ble_eq_true rfl) dX3_set_2 (fun v2 x1 H locs hI hf => ?_)
  refine b_ifeq (tgt := 16) hx hb hf dX3_set_5 (by decide) (fun hf => ?_) (fun hf => ?_)
  · refine lv_iconst (v := 0) hx hb dX3_set_16 (by decide) ?_
    exact m_zretc C hI zb_0 hf dX3_set_17
  · refine lv_iload_n hx hb dX3_set_8 rfl (lv_at hl 1 rfl) ?_
    refine lv_iload_n hx hb dX3_set_9 rfl (lv_at hl 3 rfl) ?_
    refine g_calliS (rest := []) C.1 hf (smM_canBe l N _ _) cqM_M_canBe ⟨rfl, rfl⟩ ⟨Nat.le_of_ble_eq_true rfl, Nat.le_of_ble_eq_true rfl⟩ rfl hl.1 rfl (Nat.le_of_ble_eq_true rfl) ⟨Nat.zero_le _, Nat.zero_le _⟩ dX3_set_10 (fun v3 hf => ?_)
    refine b_ifne (tgt := 18) hx hb hf dX3_set_13 (by decide) (fun hf => ?_) (fun hf => ?_)
    · refine lv_aload_n hx hb dX3_set_18 rfl (lv_at hl 0 rfl) ?_
      refine mg0 C hI dX3_set_19 ?_
      refine lv_iload_n hx hb dX3_set_22 rfl (lv_at hl 1 rfl) ?_
      refine b_ifne (tgt := 30) hx hb hf dX3_set_23 (by decide) (fun hf => ?_) (fun hf => ?_)
      · refine lv_iload_n hx hb dX3_set_30 rfl (lv_at hl 1 rfl) ?_
        refine lv_iconst (v := 1) hx hb dX3_set_31 (by decide) ?_
        refine b_icne (tgt := 40) hx hb hf dX3_set_32 (by decide) (fun hf => ?_) (fun hf => ?_)
        · refine lv_iload_n hx hb dX3_set_40 rfl (lv_at hl 1 rfl) ?_
          refine lv_iconst (v := 2) hx hb dX3_set_41 (by decide) ?_
          refine b_icne (tgt := 50) hx hb hf dX3_set_42 (by decide) (fun hf => ?_) (fun hf => ?_)
          · refine lv_iload_n hx hb dX3_set_50 rfl (lv_at hl 1 rfl) ?_
            refine lv_iconst (v := 3) hx hb dX3_set_51 (by decide) ?_
            refine b_icne (tgt := 60) hx hb hf dX3_set_52 (by decide) (fun hf => ?_) (fun hf => ?_)
            · refine lv_bipush (v := 40) hx hb dX3_set_60 (by decide) ?_
              exact w_fM_set_b62 C x1 l2 l3 40 _ _ _ hI (lv_sub hl [0, 2, 3] rfl) hf
            · refine lv_bipush (v := 93) hx hb dX3_set_55 (by decide) ?_
              refine lv_goto (tgt := 62) hx hb dX3_set_57 (by decide) ?_
              exact w_fM_set_b62 C x1 l2 l3 93 _ _ _ hI (lv_sub hl [0, 2, 3] rfl) hf
          · refine lv_bipush (v := 28) hx hb dX3_set_45 (by decide) ?_
            refine lv_goto (tgt := 62) hx hb dX3_set_47 (by decide) ?_
            exact w_fM_set_b62 C x1 l2 l3 28 _ _ _ hI (lv_sub hl [0, 2, 3] rfl) hf
        · refine lv_bipush (v := 16) hx hb dX3_set_35 (by decide) ?_
          refine lv_goto (tgt := 62) hx hb dX3_set_37 (by decide) ?_
          exact w_fM_set_b62 C x1 l2 l3 16 _ _ _ hI (lv_sub hl [0, 2, 3] rfl) hf
      · refine lv_iconst (v := 4) hx hb dX3_set_26 (by decide) ?_
        refine lv_goto (tgt := 62) hx hb dX3_set_27 (by decide) ?_
        exact w_fM_set_b62 C x1 l2 l3 4 _ _ _ hI (lv_sub hl [0, 2, 3] rfl) hf
    · refine lv_iconst (v := 0) hx hb dX3_set_16 (by decide) ?_
      exact m_zretc C hI zb_0 hf dX3_set_17
/-! feed(IIIII)I -/
abbrev rmM_feed : Room := { frames := 0, cells := 0, slots := 0, locals := 0 }
def fM_feed_b71 (N : Nat) (k18 : MS → Int32 → Int32 → Int32 → Int32 → Int32 → Int32 → Option (Int32 × MS)) (x : MS) (l1 : Int32) (l2 : Int32) (l3 : Int32) (l4 : Int32) (l5 : Int32) (l6 : Int32) (s0 : Int32) : Option (Int32 × MS) :=
  (rm_ l6 4).bind fun v1 =>
  (wr x 9 400 (gS x 16) ((s0 >>> ((24 - (8 * v1)) &&& 31)) &&& 255)).bind fun x2 =>
  k18 (sS x2 16 ((gS x2 16) + 1)) l1 l2 l3 l4 l5 (l6 + 1)
theorem w_fM_feed_b71 {N : Nat} {r : Int32} {xr : MS} {k18 : MS → Int32 → Int32 → Int32 → Int32 → Int32 → Int32 → Option (Int32 × MS)} (C : mC w A p s m args meth c cX3_feed 8 (some .int)) (hk18 : ∀ (x : MS) (l1 : Int32) (l2 : Int32) (l3 : Int32) (l4 : Int32) (l5 : Int32) (l6 : Int32) (H : Heap) (locs : List Loc) (ls : Array Slot), mI w A x s.heap H locs → lv_has ls 8 [(0, .ref (w.2.2.1 28)), (1, .int l1), (2, .int l2), (3, .int l3), (4, .int l4), (5, .int l5), (6, .int l6)] → k18 x l1 l2 l3 l4 l5 l6 = some (r, xr) → W p l e rmM_feed s m args below meth c H locs 0 0 (MQ below (mQ w A (some (.int r)) xr) args s 0 0 A) (F0 m 18 ls [])) : ∀ (x : MS) (l1 : Int32) (l2 : Int32) (l3 : Int32) (l4 : Int32) (l5 : Int32) (l6 : Int32) (s0 : Int32) (H : Heap) (locs : List Loc) (ls : Array Slot), mI w A x s.heap H locs → lv_has ls 8 [(0, .ref (w.2.2.1 28)), (1, .int l1), (2, .int l2), (3, .int l3), (4, .int l4), (5, .int l5), (6, .int l6)] → fM_feed_b71 N k18 x l1 l2 l3 l4 l5 l6 s0 = some (r, xr) → W p l e rmM_feed s m args below meth c H locs 0 0 (MQ below (mQ w A (some (.int r)) xr) args s 0 0 A) (F0 m 71 ls [.int s0]) := by
  have hx := C.1.1
  have hb := C.1.2.1
  have hown := C.1.2.2.2.1
  have hts := C.1.2.2.2.2.1
  have hE := C.2.2
  intro x l1 l2 l3 l4 l5 l6 s0 H locs ls hI hl hf
  rw [fM_feed_b71] at hf
  refine lv_istore (lv' := [(7, .int s0), (0, .ref (w.2.2.1 28)), (1, .int l1), (2, .int l2), (3, .int l3), (4, .int l4), (5, .int l5), (6, .int l6)]) hx hb dX3_feed_71 hl (by decide) rfl (fun ls hl => ?_)
  refine lv_aload_n hx hb dX3_feed_73 rfl (lv_at hl 1 rfl) ?_
  refine mg9 C hI dX3_feed_74 ?_
  refine lv_aload_n hx hb dX3_feed_77 rfl (lv_at hl 1 rfl) ?_
  refine mg16 C hI dX3_feed_78 ?_
  refine lv_iload hx hb dX3_feed_81 (lv_at hl 0 rfl) ?_
  refine lv_bipush (v := 24) hx hb dX3_feed_83 (by decide) ?_
  refine lv_bipush (v := 8) hx hb dX3_feed_85 (by decide) ?_
  refine lv_iload hx hb dX3_feed_87 (lv_at hl 7 rfl) ?_
  refine lv_iconst (v := 4) hx hb dX3_feed_89 (by decide) ?_
  refine b_irem hx hb hf dX3_feed_90 (fun v1 hf => ?_)
  refine lv_imul hx hb dX3_feed_91 ?_
  refine lv_isub hx hb dX3_feed_92 ?_
  refine lv_ishr hx hb dX3_feed_93 ?_
  refine lv_sipush (v := 255) hx hb dX3_feed_94 (by decide) ?_
  refine lv_iand hx hb dX3_feed_97 ?_
  refine ms9 C hI hf dX3_feed_98 (fun x2 H locs hI hf => ?_)
  refine lv_aload_n hx hb dX3_feed_99 rfl (lv_at hl 1 rfl) ?_
  refine lv_dup hx hb dX3_feed_100 rfl ?_
  refine mg16 C hI dX3_feed_101 ?_
  refine lv_iconst (v := 1) hx hb dX3_feed_104 (by decide) ?_
  refine lv_iadd hx hb dX3_feed_105 ?_
  refine mp16 C hI dX3_feed_106 (fun H locs hI => ?_)
  refine lv_iinc (v := l6 + 1) (lv' := [(6, .int (l6 + 1)), (7, .int s0), (0, .ref (w.2.2.1 28)), (1, .int l1), (2, .int l2), (3, .int l3), (4, .int l4), (5, .int l5)]) hx hb dX3_feed_109 hl (k := 7) rfl rfl (by decide) rfl (fun ls hl => ?_)
  refine lv_goto (tgt := 18) hx hb dX3_feed_112 (by decide) ?_
  exact hk18 (sS x2 16 ((gS x2 16) + 1)) l1 l2 l3 l4 l5 (l6 + 1) _ _ _ hI (lv_sub hl [2, 3, 4, 5, 6, 7, 0] rfl) hf
def fM_feed_b18 (N : Nat) : Nat → MS → Int32 → Int32 → Int32 → Int32 → Int32 → Int32 → Option (Int32 × MS)
  | 0, _, _, _, _, _, _, _ => none
  | n + 1, x, l1, l2, l3, l4, l5, l6 =>
  if 20 ≤ l6 then
    some (gS x 16, x)
  else
    if 4 ≤ l6 then
      if 8 ≤ l6 then
        if 12 ≤ l6 then
          if 16 ≤ l6 then
            fM_feed_b71 N (fM_feed_b18 N n) x l1 l2 l3 l4 l5 l6 l5
          else
            fM_feed_b71 N (fM_feed_b18 N n) x l1 l2 l3 l4 l5 l6 l4
        else
          fM_feed_b71 N (fM_feed_b18 N n) x l1 l2 l3 l4 l5 l6 l3
      else
        fM_feed_b71 N (fM_feed_b18 N n) x l1 l2 l3 l4 l5 l6 l2
    else
      fM_feed_b71 N (fM_feed_b18 N n) x l1 l2 l3 l4 l5 l6 l1
theorem w_fM_feed_b18 {N : Nat} {r : Int32} {xr : MS} (C : mC w A p s m args meth c cX3_feed 8 (some .int)) : ∀ (n : Nat) (x : MS) (l1 : Int32) (l2 : Int32) (l3 : Int32) (l4 : Int32) (l5 : Int32) (l6 : Int32) (H : Heap) (locs : List Loc) (ls : Array Slot), mI w A x s.heap H locs → lv_has ls 8 [(0, .ref (w.2.2.1 28)), (1, .int l1), (2, .int l2), (3, .int l3), (4, .int l4), (5, .int l5), (6, .int l6)] → fM_feed_b18 N n x l1 l2 l3 l4 l5 l6 = some (r, xr) → W p l e rmM_feed s m args below meth c H locs 0 0 (MQ below (mQ w A (some (.int r)) xr) args s 0 0 A) (F0 m 18 ls []) := by
  have hx := C.1.1
  have hb := C.1.2.1
  have hown := C.1.2.2.2.1
  have hts := C.1.2.2.2.2.1
  have hE := C.2.2
  intro n
  induction n with
  | zero => intro x l1 l2 l3 l4 l5 l6 H locs ls hI hl hf; rw [fM_feed_b18] at hf; cases hf
  | succ n ih =>
  intro x l1 l2 l3 l4 l5 l6 H locs ls hI hl hf
  rw [fM_feed_b18] at hf
  refine lv_iload hx hb dX3_feed_18 (lv_at hl 6 rfl) ?_
  refine lv_bipush (v := 20) hx hb dX3_feed_20 (by decide) ?_
  refine b_icge (tgt := 115) hx hb hf dX3_feed_22 (by decide) (fun hf => ?_) (fun hf => ?_)
  · refine lv_aload_n hx hb dX3_feed_115 rfl (lv_at hl 0 rfl) ?_
    refine mg16 C hI dX3_feed_116 ?_
    exact m_iret C hI hf dX3_feed_119
  · refine lv_iload hx hb dX3_feed_25 (lv_at hl 6 rfl) ?_
    refine lv_iconst (v := 4) hx hb dX3_feed_27 (by decide) ?_
    refine b_icge (tgt := 35) hx hb hf dX3_feed_28 (by decide) (fun hf => ?_) (fun hf => ?_)
    · refine lv_iload hx hb dX3_feed_35 (lv_at hl 6 rfl) ?_
      refine lv_bipush (v := 8) hx hb dX3_feed_37 (by decide) ?_
      refine b_icge (tgt := 46) hx hb hf dX3_feed_39 (by decide) (fun hf => ?_) (fun hf => ?_)
      · refine lv_iload hx hb dX3_feed_46 (lv_at hl 6 rfl) ?_
        refine lv_bipush (v := 12) hx hb dX3_feed_48 (by decide) ?_
        refine b_icge (tgt := 57) hx hb hf dX3_feed_50 (by decide) (fun hf => ?_) (fun hf => ?_)
        · refine lv_iload hx hb dX3_feed_57 (lv_at hl 6 rfl) ?_
          refine lv_bipush (v := 16) hx hb dX3_feed_59 (by decide) ?_
          refine b_icge (tgt := 69) hx hb hf dX3_feed_61 (by decide) (fun hf => ?_) (fun hf => ?_)
          · refine lv_iload hx hb dX3_feed_69 (lv_at hl 5 rfl) ?_
            exact w_fM_feed_b71 C ih x l1 l2 l3 l4 l5 l6 l5 _ _ _ hI (lv_sub hl [0, 1, 2, 3, 4, 5, 6] rfl) hf
          · refine lv_iload hx hb dX3_feed_64 (lv_at hl 4 rfl) ?_
            refine lv_goto (tgt := 71) hx hb dX3_feed_66 (by decide) ?_
            exact w_fM_feed_b71 C ih x l1 l2 l3 l4 l5 l6 l4 _ _ _ hI (lv_sub hl [0, 1, 2, 3, 4, 5, 6] rfl) hf
        · refine lv_iload_n hx hb dX3_feed_53 rfl (lv_at hl 3 rfl) ?_
          refine lv_goto (tgt := 71) hx hb dX3_feed_54 (by decide) ?_
          exact w_fM_feed_b71 C ih x l1 l2 l3 l4 l5 l6 l3 _ _ _ hI (lv_sub hl [0, 1, 2, 3, 4, 5, 6] rfl) hf
      · refine lv_iload_n hx hb dX3_feed_42 rfl (lv_at hl 2 rfl) ?_
        refine lv_goto (tgt := 71) hx hb dX3_feed_43 (by decide) ?_
        exact w_fM_feed_b71 C ih x l1 l2 l3 l4 l5 l6 l2 _ _ _ hI (lv_sub hl [0, 1, 2, 3, 4, 5, 6] rfl) hf
    · refine lv_iload_n hx hb dX3_feed_31 rfl (lv_at hl 1 rfl) ?_
      refine lv_goto (tgt := 71) hx hb dX3_feed_32 (by decide) ?_
      exact w_fM_feed_b71 C ih x l1 l2 l3 l4 l5 l6 l1 _ _ _ hI (lv_sub hl [0, 1, 2, 3, 4, 5, 6] rfl) hf
def fM_feed (N : Nat) (x : MS) (l1 : Int32) (l2 : Int32) (l3 : Int32) (l4 : Int32) (l5 : Int32) : Option (Int32 × MS) :=
  if ((gS x 16) + 20) ≤ 400 then
    fM_feed_b18 N N x l1 l2 l3 l4 l5 0
  else
    some ((-1), x)
theorem mm_feed (l : Launch) (N : Nat) {w : mO} {A : Nat → Prop} : ∀ (x : MS) (l1 : Int32) (l2 : Int32) (l3 : Int32) (l4 : Int32) (l5 : Int32) (r : Int32) (xr : MS), fM_feed N x l1 l2 l3 l4 l5 = some (r, xr) → mMet l yX3_feed (ws_ yX3_feed cX3_feed 8 (some .int)) rmM_feed [.ref (w.2.2.1 28), .int l1, .int l2, .int l3, .int l4, .int l5] w A x (some (.int r)) xr := by
  intro x l1 l2 l3 l4 l5 r xr hf
  refine m_start (cc := cX3_feed) (by decide +kernel) rfl (Nat.le_of_ble_eq_true rfl) rfl ?_
  intro p e s m args below meth c ls H locs C hI hl
  have hx := C.1.1
  have hb := C.1.2.1
  have hown := C.1.2.2.2.1
  have hts := C.1.2.2.2.2.1
  have hE := C.2.2
  rw [fM_feed] at hf
  refine lv_aload_n hx hb dX3_feed_0 rfl (lv_at hl 0 rfl) ?_
  refine mg16 C hI dX3_feed_1 ?_
  refine lv_bipush (v := 20) hx hb dX3_feed_4 (by decide) ?_
  refine lv_iadd hx hb dX3_feed_6 ?_
  refine lv_sipush (v := 400) hx hb dX3_feed_7 (by decide) ?_
  refine b_icle (tgt := 15) hx hb hf dX3_feed_10 (by decide) (fun hf => ?_) (fun hf => ?_)
  · refine lv_iconst (v := 0) hx hb dX3_feed_15 (by decide) ?_
    refine lv_istore (lv' := [(6, .int 0), (0, .ref (w.2.2.1 28)), (1, .int l1), (2, .int l2), (3, .int l3), (4, .int l4), (5, .int l5)]) hx hb dX3_feed_16 hl (by decide) rfl (fun ls hl => ?_)
    exact w_fM_feed_b18 C N x l1 l2 l3 l4 l5 0 _ _ _ hI (lv_sub hl [1, 2, 3, 4, 5, 6, 0] rfl) hf
  · refine lv_iconst (v := (-1)) hx hb dX3_feed_13 (by decide) ?_
    exact m_iret C hI hf dX3_feed_14
/-! end(I)Z -/
abbrev rmM_end : Room := { frames := 1, cells := 0, slots := 0, locals := 22 }
def fM_end (N : Nat) (x : MS) (l1 : Int32) : Option (Int32 × MS) :=
  (fM_isIn N l1 0 (gS x 16)).bind fun v1 =>
  if v1 = 0 then
    some (0, x)
  else
    some (1, sS x 16 l1)
theorem mm_end (l : Launch) (N : Nat) {w : mO} {A : Nat → Prop} : ∀ (x : MS) (l1 : Int32) (r : Int32) (xr : MS), fM_end N x l1 = some (r, xr) → mMet l yX3_end (ws_ yX3_end cX3_end 2 (some .boolean)) rmM_end [.ref (w.2.2.1 28), .int l1] w A x (some (.int r)) xr := by
  intro x l1 r xr hf
  refine m_start (cc := cX3_end) (by decide +kernel) rfl (Nat.le_of_ble_eq_true rfl) rfl ?_
  intro p e s m args below meth c ls H locs C hI hl
  have hx := C.1.1
  have hb := C.1.2.1
  have hown := C.1.2.2.2.1
  have hts := C.1.2.2.2.2.1
  have hE := C.2.2
  rw [fM_end] at hf
  refine lv_iload_n hx hb dX3_end_0 rfl (lv_at hl 1 rfl) ?_
  refine lv_iconst (v := 0) hx hb dX3_end_1 (by decide) ?_
  refine lv_aload_n hx hb dX3_end_2 rfl (lv_at hl 0 rfl) ?_
  refine mg16 C hI dX3_end_3 ?_
  refine g_calliS (rest := []) C.1 hf (smM_isIn l N _ _ _) cqM_M_isIn ⟨rfl, rfl⟩ ⟨Nat.le_of_ble_eq_true rfl, Nat.le_of_ble_eq_true rfl⟩ rfl hl.1 rfl (Nat.le_of_ble_eq_true rfl) ⟨Nat.zero_le _, Nat.zero_le _⟩ dX3_end_6 (fun v1 hf => ?_)
  refine b_ifne (tgt := 14) hx hb hf dX3_end_9 (by decide) (fun hf => ?_) (fun hf => ?_)
  · refine lv_aload_n hx hb dX3_end_14 rfl (lv_at hl 0 rfl) ?_
    refine lv_iload_n hx hb dX3_end_15 rfl (lv_at hl 1 rfl) ?_
    refine mp16 C hI dX3_end_16 (fun H locs hI => ?_)
    refine lv_iconst (v := 1) hx hb dX3_end_19 (by decide) ?_
    exact m_zretc C hI zb_1 hf dX3_end_20
  · refine lv_iconst (v := 0) hx hb dX3_end_12 (by decide) ?_
    exact m_zretc C hI zb_0 hf dX3_end_13
/-! see(I)I -/
abbrev rmM_see : Room := { frames := 0, cells := 0, slots := 0, locals := 0 }
def fM_see (N : Nat) (x : MS) (l1 : Int32) : Option (Int32 × MS) :=
  if (gS x 16) ≤ l1 then
    some ((-1), x)
  else
    (rd 400 (gA x 9) l1).bind fun v1 =>
    some (v1, x)
theorem mm_see (l : Launch) (N : Nat) {w : mO} {A : Nat → Prop} : ∀ (x : MS) (l1 : Int32) (r : Int32) (xr : MS), fM_see N x l1 = some (r, xr) → mMet l yX3_see (ws_ yX3_see cX3_see 2 (some .int)) rmM_see [.ref (w.2.2.1 28), .int l1] w A x (some (.int r)) xr := by
  intro x l1 r xr hf
  refine m_start (cc := cX3_see) (by decide +kernel) rfl (Nat.le_of_ble_eq_true rfl) rfl ?_
  intro p e s m args below meth c ls H locs C hI hl
  have hx := C.1.1
  have hb := C.1.2.1
  have hown := C.1.2.2.2.1
  have hts := C.1.2.2.2.2.1
  have hE := C.2.2
  rw [fM_see] at hf
  refine lv_iload_n hx hb dX3_see_0 rfl (lv_at hl 1 rfl) ?_
  refine lv_aload_n hx hb dX3_see_1 rfl (lv_at hl 0 rfl) ?_
  refine mg16 C hI dX3_see_2 ?_
  refine b_icge (tgt := 17) hx hb hf dX3_see_5 (by decide) (fun hf => ?_) (fun hf => ?_)
  · refine lv_iconst (v := (-1)) hx hb dX3_see_17 (by decide) ?_
    exact m_iret C hI hf dX3_see_18
  · refine lv_aload_n hx hb dX3_see_8 rfl (lv_at hl 0 rfl) ?_
    refine mg9 C hI dX3_see_9 ?_
    refine lv_iload_n hx hb dX3_see_12 rfl (lv_at hl 1 rfl) ?_
    refine ma9 C hI hf dX3_see_13 (fun v1 hf => ?_)
    refine lv_goto (tgt := 18) hx hb dX3_see_14 (by decide) ?_
    exact m_iret C hI hf dX3_see_18
/-! is(Ljava/lang/String;)Z -/
abbrev rmM_is : Room := { frames := 4, cells := 0, slots := 0, locals := 85 }
def fM_is_b24 (N : Nat) : Nat → MS → Nat → Int32 → Int32 → Option (Int32 × MS)
  | 0, _, _, _, _ => none
  | n + 1, x, l1, l2, l3 =>
  (fJs_length N l1 ).bind fun v1 =>
  if v1 ≤ l3 then
    some (zb l2, x)
  else
    if l2 = 0 then
      some (zb l2, x)
    else
      (rd 400 (gA x 9) ((gS x 19) + l3)).bind fun v2 =>
      (fJs_charAt N l1 l3).bind fun v3 =>
      lt (if v2 = v3 then 1 else 0 : Int32) fun v4 =>
      fM_is_b24 N n x l1 v4 (l3 + 1)
theorem w_fM_is_b24 {N : Nat} {r : Int32} {xr : MS} (C : mC w A p s m args meth c cX3_is 4 (some .boolean)) : ∀ (n : Nat) (x : MS) (l1 : Nat) (l2 : Int32) (l3 : Int32) (H : Heap) (locs : List Loc) (ls : Array Slot), l1 < 25 → mI w A x s.heap H locs → lv_has ls 4 [(0, .ref (w.2.2.1 28)), (1, .ref (w.2.2.2.1 l1)), (2, .int l2), (3, .int l3)] → fM_is_b24 N n x l1 l2 l3 = some (r, xr) → W p l e rmM_is s m args below meth c H locs 0 0 (MQ below (mQ w A (some (.int r)) xr) args s 0 0 A) (F0 m 24 ls []) := by
  have hx := C.1.1
  have hb := C.1.2.1
  have hown := C.1.2.2.2.1
  have hts := C.1.2.2.2.2.1
  have hE := C.2.2
  intro n
  induction n with
  | zero => intro x l1 l2 l3 H locs ls hi_l1 hI hl hf; rw [fM_is_b24] at hf; cases hf
  | succ n ih =>
  intro x l1 l2 l3 H locs ls hi_l1 hI hl hf
  rw [fM_is_b24] at hf
  refine lv_iload_n hx hb dX3_is_24 rfl (lv_at hl 3 rfl) ?_
  refine lv_aload_n hx hb dX3_is_25 rfl (lv_at hl 1 rfl) ?_
  refine j_calli (rest := [.int l3]) C.1 hE.1 hI.2.2.1 hi_l1 hf (smJs_length l N hi_l1) rfl cqM_Js_length ⟨rfl, rfl⟩ ⟨Nat.le_of_ble_eq_true rfl, Nat.le_of_ble_eq_true rfl⟩ rfl hl.1 rfl (Nat.le_of_ble_eq_true rfl) ⟨Nat.zero_le _, Nat.zero_le _⟩ dX3_is_26 (fun v1 hf => ?_)
  refine b_icge (tgt := 67) hx hb hf dX3_is_29 (by decide) (fun hf => ?_) (fun hf => ?_)
  · refine lv_iload_n hx hb dX3_is_67 rfl (lv_at hl 2 rfl) ?_
    exact m_zret C hI hf dX3_is_68
  · refine lv_iload_n hx hb dX3_is_32 rfl (lv_at hl 2 rfl) ?_
    refine b_ifeq (tgt := 67) hx hb hf dX3_is_33 (by decide) (fun hf => ?_) (fun hf => ?_)
    · refine lv_iload_n hx hb dX3_is_67 rfl (lv_at hl 2 rfl) ?_
      exact m_zret C hI hf dX3_is_68
    · refine lv_aload_n hx hb dX3_is_36 rfl (lv_at hl 0 rfl) ?_
      refine mg9 C hI dX3_is_37 ?_
      refine lv_aload_n hx hb dX3_is_40 rfl (lv_at hl 0 rfl) ?_
      refine mg19 C hI dX3_is_41 ?_
      refine lv_iload_n hx hb dX3_is_44 rfl (lv_at hl 3 rfl) ?_
      refine lv_iadd hx hb dX3_is_45 ?_
      refine ma9 C hI hf dX3_is_46 (fun v2 hf => ?_)
      refine lv_aload_n hx hb dX3_is_47 rfl (lv_at hl 1 rfl) ?_
      refine lv_iload_n hx hb dX3_is_48 rfl (lv_at hl 3 rfl) ?_
      refine j_calli (rest := [.int v2]) C.1 hE.1 hI.2.2.1 hi_l1 hf (smJs_charAt l N hi_l1 _) rfl cqM_Js_charAt ⟨rfl, rfl⟩ ⟨Nat.le_of_ble_eq_true rfl, Nat.le_of_ble_eq_true rfl⟩ rfl hl.1 rfl (Nat.le_of_ble_eq_true rfl) ⟨Nat.zero_le _, Nat.zero_le _⟩ dX3_is_49 (fun v3 hf => ?_)
      suffices hJ : ∀ v4 : Int32, (v4 = (if v2 = v3 then 1 else 0 : Int32)) → W p l e rmM_is s m args below meth c H locs 0 0 (MQ below (mQ w A (some (.int r)) xr) args s 0 0 A) (F0 m 60 ls [.int v4]) by
        refine lv_icmp_ne (tgt := 59) hx hb dX3_is_52 (by decide) (fun hc => ?_) (fun hc => ?_)
        · refine lv_iconst (v := 0) hx hb dX3_is_59 (by decide) ?_
          exact hJ _ (if_neg hc).symm
        · refine lv_iconst (v := 1) hx hb dX3_is_55 (by decide) ?_
          refine lv_goto (tgt := 60) hx hb dX3_is_56 (by decide) ?_
          exact hJ _ (if_pos hc).symm
      intro v4 hv
      have hf := lt_of hv hf
      refine lv_istore_n (lv' := [(2, .int v4), (0, .ref (w.2.2.1 28)), (1, .ref (w.2.2.2.1 l1)), (3, .int l3)]) hx hb dX3_is_60 rfl hl (by decide) rfl (fun ls hl => ?_)
      refine lv_iinc (v := l3 + 1) (lv' := [(3, .int (l3 + 1)), (2, .int v4), (0, .ref (w.2.2.1 28)), (1, .ref (w.2.2.2.1 l1))]) hx hb dX3_is_61 hl (k := 3) rfl rfl (by decide) rfl (fun ls hl => ?_)
      refine lv_goto (tgt := 24) hx hb dX3_is_64 (by decide) ?_
      exact ih x l1 v4 (l3 + 1) _ _ _ hi_l1 hI (lv_sub hl [2, 3, 1, 0] rfl) hf
def fM_is (N : Nat) (x : MS) (l1 : Nat) : Option (Int32 × MS) :=
  (fJs_length N l1 ).bind fun v1 =>
  lt (if ((gS x 17) - (gS x 19)) = v1 then 1 else 0 : Int32) fun v2 =>
  fM_is_b24 N N x l1 v2 0
theorem mm_is (l : Launch) (N : Nat) {w : mO} {A : Nat → Prop} {l1 : Nat} (hi_l1 : l1 < 25) : ∀ (x : MS) (r : Int32) (xr : MS), fM_is N x l1 = some (r, xr) → mMet l yX3_is (ws_ yX3_is cX3_is 4 (some .boolean)) rmM_is [.ref (w.2.2.1 28), .ref (w.2.2.2.1 l1)] w A x (some (.int r)) xr := by
  intro x  r xr hf
  refine m_start (cc := cX3_is) (by decide +kernel) rfl (Nat.le_of_ble_eq_true rfl) rfl ?_
  intro p e s m args below meth c ls H locs C hI hl
  have hx := C.1.1
  have hb := C.1.2.1
  have hown := C.1.2.2.2.1
  have hts := C.1.2.2.2.2.1
  have hE := C.2.2
  rw [fM_is] at hf
  refine lv_aload_n hx hb dX3_is_0 rfl (lv_at hl 0 rfl) ?_
  refine mg17 C hI dX3_is_1 ?_
  refine lv_aload_n hx hb dX3_is_4 rfl (lv_at hl 0 rfl) ?_
  refine mg19 C hI dX3_is_5 ?_
  refine lv_isub hx hb dX3_is_8 ?_
  refine lv_aload_n hx hb dX3_is_9 rfl (lv_at hl 1 rfl) ?_
  refine j_calli (rest := [.int ((gS x 17) - (gS x 19))]) C.1 hE.1 hI.2.2.1 hi_l1 hf (smJs_length l N hi_l1) rfl cqM_Js_length ⟨rfl, rfl⟩ ⟨Nat.le_of_ble_eq_true rfl, Nat.le_of_ble_eq_true rfl⟩ rfl hl.1 rfl (Nat.le_of_ble_eq_true rfl) ⟨Nat.zero_le _, Nat.zero_le _⟩ dX3_is_10 (fun v1 hf => ?_)
  suffices hJ : ∀ v2 : Int32, (v2 = (if ((gS x 17) - (gS x 19)) = v1 then 1 else 0 : Int32)) → W p l e rmM_is s m args below meth c H locs 0 0 (MQ below (mQ w A (some (.int r)) xr) args s 0 0 A) (F0 m 21 ls [.int v2]) by
    refine lv_icmp_ne (tgt := 20) hx hb dX3_is_13 (by decide) (fun hc => ?_) (fun hc => ?_)
    · refine lv_iconst (v := 0) hx hb dX3_is_20 (by decide) ?_
      exact hJ _ (if_neg hc).symm
    · refine lv_iconst (v := 1) hx hb dX3_is_16 (by decide) ?_
      refine lv_goto (tgt := 21) hx hb dX3_is_17 (by decide) ?_
      exact hJ _ (if_pos hc).symm
  intro v2 hv
  have hf := lt_of hv hf
  refine lv_istore_n (lv' := [(2, .int v2), (0, .ref (w.2.2.1 28)), (1, .ref (w.2.2.2.1 l1))]) hx hb dX3_is_21 rfl hl (by decide) rfl (fun ls hl => ?_)
  refine lv_iconst (v := 0) hx hb dX3_is_22 (by decide) ?_
  refine lv_istore_n (lv' := [(3, .int 0), (2, .int v2), (0, .ref (w.2.2.1 28)), (1, .ref (w.2.2.2.1 l1))]) hx hb dX3_is_23 rfl hl (by decide) rfl (fun ls hl => ?_)
  exact w_fM_is_b24 C N x l1 v2 0 _ _ _ hi_l1 hI (lv_sub hl [2, 3, 1, 0] rfl) hf
/-! asked()I -/
abbrev rmM_asked : Room := { frames := 5, cells := 0, slots := 0, locals := 108 }
def fM_asked (N : Nat) (x : MS) : Option (Int32 × MS) :=
  b2 (fM_is N x 9) fun v2 x1 =>
  if v2 = 0 then
    b2 (fM_is N x1 13) fun v4 x3 =>
    if v4 = 0 then
      b2 (fM_is N x3 14) fun v6 x5 =>
      if v6 = 0 then
        b2 (fM_is N x5 15) fun v8 x7 =>
        if v8 = 0 then
          b2 (fM_is N x7 16) fun v10 x9 =>
          if v10 = 0 then
            b2 (fM_is N x9 12) fun v12 x11 =>
            if v12 = 0 then
              b2 (fM_is N x11 17) fun v14 x13 =>
              if v14 = 0 then
                b2 (fM_is N x13 18) fun v16 x15 =>
                if v16 = 0 then
                  b2 (fM_is N x15 19) fun v18 x17 =>
                  lt (if v18 = 0 then 1 else 49 : Int32) fun v19 =>
                  some (v19, x17)
                else
                  some (48, x15)
              else
                some (47, x13)
            else
              some (46, x11)
          else
            some (45, x9)
        else
          some (44, x7)
      else
        some (43, x5)
    else
      some (42, x3)
  else
    some (41, x1)
theorem mm_asked (l : Launch) (N : Nat) {w : mO} {A : Nat → Prop} : ∀ (x : MS) (r : Int32) (xr : MS), fM_asked N x  = some (r, xr) → mMet l yX3_asked (ws_ yX3_asked cX3_asked 1 (some .int)) rmM_asked [.ref (w.2.2.1 28)] w A x (some (.int r)) xr := by
  intro x  r xr hf
  refine m_start (cc := cX3_asked) (by decide +kernel) rfl (Nat.le_of_ble_eq_true rfl) rfl ?_
  intro p e s m args below meth c ls H locs C hI hl
  have hx := C.1.1
  have hb := C.1.2.1
  have hown := C.1.2.2.2.1
  have hts := C.1.2.2.2.2.1
  have hE := C.2.2
  rw [fM_asked] at hf
  refine lv_aload_n hx hb dX3_asked_0 rfl (lv_at hl 0 rfl) ?_
  refine va_ldcS (q := w.2.2.2.1 9) hx hb hown (hE.2 (99, "link", 9) (List.mem_of_getElem? (i := 8) rfl)) dX3_asked_1 ?_
  refine m_calli (rest := []) C hI hf (mm_is l N (by decide) _) rfl cqM_is ⟨rfl, rfl⟩ ⟨Nat.le_of_ble_eq_true rfl, Nat.le_of_ble_eq_true rfl⟩ rfl hl.1 rfl (Nat.le_of_ble_eq_true rfl) dX3_asked_3 (fun v2 x1 H locs hI hf => ?_)
  refine b_ifeq (tgt := 12) hx hb hf dX3_asked_6 (by decide) (fun hf => ?_) (fun hf => ?_)
  · refine lv_aload_n hx hb dX3_asked_12 rfl (lv_at hl 0 rfl) ?_
    refine va_ldcS (q := w.2.2.2.1 13) hx hb hown (hE.2 (105, "price", 13) (List.mem_of_getElem? (i := 9) rfl)) dX3_asked_13 ?_
    refine m_calli (rest := []) C hI hf (mm_is l N (by decide) _) rfl cqM_is ⟨rfl, rfl⟩ ⟨Nat.le_of_ble_eq_true rfl, Nat.le_of_ble_eq_true rfl⟩ rfl hl.1 rfl (Nat.le_of_ble_eq_true rfl) dX3_asked_15 (fun v4 x3 H locs hI hf => ?_)
    refine b_ifeq (tgt := 24) hx hb hf dX3_asked_18 (by decide) (fun hf => ?_) (fun hf => ?_)
    · refine lv_aload_n hx hb dX3_asked_24 rfl (lv_at hl 0 rfl) ?_
      refine va_ldcS (q := w.2.2.2.1 14) hx hb hown (hE.2 (107, "purse", 14) (List.mem_of_getElem? (i := 10) rfl)) dX3_asked_25 ?_
      refine m_calli (rest := []) C hI hf (mm_is l N (by decide) _) rfl cqM_is ⟨rfl, rfl⟩ ⟨Nat.le_of_ble_eq_true rfl, Nat.le_of_ble_eq_true rfl⟩ rfl hl.1 rfl (Nat.le_of_ble_eq_true rfl) dX3_asked_27 (fun v6 x5 H locs hI hf => ?_)
      refine b_ifeq (tgt := 36) hx hb hf dX3_asked_30 (by decide) (fun hf => ?_) (fun hf => ?_)
      · refine lv_aload_n hx hb dX3_asked_36 rfl (lv_at hl 0 rfl) ?_
        refine va_ldcS (q := w.2.2.2.1 15) hx hb hown (hE.2 (109, "worth", 15) (List.mem_of_getElem? (i := 11) rfl)) dX3_asked_37 ?_
        refine m_calli (rest := []) C hI hf (mm_is l N (by decide) _) rfl cqM_is ⟨rfl, rfl⟩ ⟨Nat.le_of_ble_eq_true rfl, Nat.le_of_ble_eq_true rfl⟩ rfl hl.1 rfl (Nat.le_of_ble_eq_true rfl) dX3_asked_39 (fun v8 x7 H locs hI hf => ?_)
        refine b_ifeq (tgt := 48) hx hb hf dX3_asked_42 (by decide) (fun hf => ?_) (fun hf => ?_)
        · refine lv_aload_n hx hb dX3_asked_48 rfl (lv_at hl 0 rfl) ?_
          refine va_ldcS (q := w.2.2.2.1 16) hx hb hown (hE.2 (111, "slow", 16) (List.mem_of_getElem? (i := 12) rfl)) dX3_asked_49 ?_
          refine m_calli (rest := []) C hI hf (mm_is l N (by decide) _) rfl cqM_is ⟨rfl, rfl⟩ ⟨Nat.le_of_ble_eq_true rfl, Nat.le_of_ble_eq_true rfl⟩ rfl hl.1 rfl (Nat.le_of_ble_eq_true rfl) dX3_asked_51 (fun v10 x9 H locs hI hf => ?_)
          refine b_ifeq (tgt := 60) hx hb hf dX3_asked_54 (by decide) (fun hf => ?_) (fun hf => ?_)
          · refine lv_aload_n hx hb dX3_asked_60 rfl (lv_at hl 0 rfl) ?_
            refine va_ldcS (q := w.2.2.2.1 12) hx hb hown (hE.2 (113, "day", 12) (List.mem_of_getElem? (i := 13) rfl)) dX3_asked_61 ?_
            refine m_calli (rest := []) C hI hf (mm_is l N (by decide) _) rfl cqM_is ⟨rfl, rfl⟩ ⟨Nat.le_of_ble_eq_true rfl, Nat.le_of_ble_eq_true rfl⟩ rfl hl.1 rfl (Nat.le_of_ble_eq_true rfl) dX3_asked_63 (fun v12 x11 H locs hI hf => ?_)
            refine b_ifeq (tgt := 72) hx hb hf dX3_asked_66 (by decide) (fun hf => ?_) (fun hf => ?_)
            · refine lv_aload_n hx hb dX3_asked_72 rfl (lv_at hl 0 rfl) ?_
              refine va_ldcS (q := w.2.2.2.1 17) hx hb hown (hE.2 (115, "links", 17) (List.mem_of_getElem? (i := 14) rfl)) dX3_asked_73 ?_
              refine m_calli (rest := []) C hI hf (mm_is l N (by decide) _) rfl cqM_is ⟨rfl, rfl⟩ ⟨Nat.le_of_ble_eq_true rfl, Nat.le_of_ble_eq_true rfl⟩ rfl hl.1 rfl (Nat.le_of_ble_eq_true rfl) dX3_asked_75 (fun v14 x13 H locs hI hf => ?_)
              refine b_ifeq (tgt := 84) hx hb hf dX3_asked_78 (by decide) (fun hf => ?_) (fun hf => ?_)
              · refine lv_aload_n hx hb dX3_asked_84 rfl (lv_at hl 0 rfl) ?_
                refine va_ldcS (q := w.2.2.2.1 18) hx hb hown (hE.2 (117, "bridged", 18) (List.mem_of_getElem? (i := 15) rfl)) dX3_asked_85 ?_
                refine m_calli (rest := []) C hI hf (mm_is l N (by decide) _) rfl cqM_is ⟨rfl, rfl⟩ ⟨Nat.le_of_ble_eq_true rfl, Nat.le_of_ble_eq_true rfl⟩ rfl hl.1 rfl (Nat.le_of_ble_eq_true rfl) dX3_asked_87 (fun v16 x15 H locs hI hf => ?_)
                refine b_ifeq (tgt := 96) hx hb hf dX3_asked_90 (by decide) (fun hf => ?_) (fun hf => ?_)
                · refine lv_aload_n hx hb dX3_asked_96 rfl (lv_at hl 0 rfl) ?_
                  refine va_ldcS (q := w.2.2.2.1 19) hx hb hown (hE.2 (119, "lacks", 19) (List.mem_of_getElem? (i := 16) rfl)) dX3_asked_97 ?_
                  refine m_calli (rest := []) C hI hf (mm_is l N (by decide) _) rfl cqM_is ⟨rfl, rfl⟩ ⟨Nat.le_of_ble_eq_true rfl, Nat.le_of_ble_eq_true rfl⟩ rfl hl.1 rfl (Nat.le_of_ble_eq_true rfl) dX3_asked_99 (fun v18 x17 H locs hI hf => ?_)
                  suffices hJ : ∀ v19 : Int32, (v19 = (if v18 = 0 then 1 else 49 : Int32)) → W p l e rmM_asked s m args below meth c H locs 0 0 (MQ below (mQ w A (some (.int r)) xr) args s 0 0 A) (F0 m 111 ls [.int v19]) by
                    refine lv_if_eq (tgt := 110) hx hb dX3_asked_102 (by decide) (fun hc => ?_) (fun hc => ?_)
                    · refine lv_iconst (v := 1) hx hb dX3_asked_110 (by decide) ?_
                      exact hJ _ (if_pos hc).symm
                    · refine lv_bipush (v := 49) hx hb dX3_asked_105 (by decide) ?_
                      refine lv_goto (tgt := 111) hx hb dX3_asked_107 (by decide) ?_
                      exact hJ _ (if_neg hc).symm
                  intro v19 hv
                  have hf := lt_of hv hf
                  exact m_iret C hI hf dX3_asked_111
                · refine lv_bipush (v := 48) hx hb dX3_asked_93 (by decide) ?_
                  exact m_iret C hI hf dX3_asked_95
              · refine lv_bipush (v := 47) hx hb dX3_asked_81 (by decide) ?_
                exact m_iret C hI hf dX3_asked_83
            · refine lv_bipush (v := 46) hx hb dX3_asked_69 (by decide) ?_
              exact m_iret C hI hf dX3_asked_71
          · refine lv_bipush (v := 45) hx hb dX3_asked_57 (by decide) ?_
            exact m_iret C hI hf dX3_asked_59
        · refine lv_bipush (v := 44) hx hb dX3_asked_45 (by decide) ?_
          exact m_iret C hI hf dX3_asked_47
      · refine lv_bipush (v := 43) hx hb dX3_asked_33 (by decide) ?_
        exact m_iret C hI hf dX3_asked_35
    · refine lv_bipush (v := 42) hx hb dX3_asked_21 (by decide) ?_
      exact m_iret C hI hf dX3_asked_23
  · refine lv_bipush (v := 41) hx hb dX3_asked_9 (by decide) ?_
    exact m_iret C hI hf dX3_asked_11
/-! lawWord()I -/
abbrev rmM_lawWord : Room := { frames := 6, cells := 0, slots := 0, locals := 128 }
def fM_lawWord (N : Nat) (x : MS) : Option (Int32 × MS) :=
  b2 (fM_is N x 20) fun v2 x1 =>
  if v2 = 0 then
    b2 (fM_is N x1 21) fun v4 x3 =>
    if v4 = 0 then
      b2 (fM_is N x3 22) fun v6 x5 =>
      if v6 = 0 then
        b2 (fM_is N x5 23) fun v8 x7 =>
        if v8 = 0 then
          b2 (fM_is N x7 0) fun v10 x9 =>
          if v10 = 0 then
            b2 (fM_is N x9 1) fun v12 x11 =>
            if v12 = 0 then
              b2 (fM_is N x11 2) fun v14 x13 =>
              if v14 = 0 then
                b2 (fM_is N x13 3) fun v16 x15 =>
                if v16 = 0 then
                  b2 (fM_asked N x15) fun v18 x17 =>
                  some (v18, x17)
                else
                  some (23, x15)
              else
                some (22, x13)
            else
              some (21, x11)
          else
            some (20, x9)
        else
          some (6, x7)
      else
        some (5, x5)
    else
      some (4, x3)
  else
    some (3, x1)
theorem mm_lawWord (l : Launch) (N : Nat) {w : mO} {A : Nat → Prop} : ∀ (x : MS) (r : Int32) (xr : MS), fM_lawWord N x  = some (r, xr) → mMet l yX3_lawWord (ws_ yX3_lawWord cX3_lawWord 1 (some .int)) rmM_lawWord [.ref (w.2.2.1 28)] w A x (some (.int r)) xr := by
  intro x  r xr hf
  refine m_start (cc := cX3_lawWord) (by decide +kernel) rfl (Nat.le_of_ble_eq_true rfl) rfl ?_
  intro p e s m args below meth c ls H locs C hI hl
  have hx := C.1.1
  have hb := C.1.2.1
  have hown := C.1.2.2.2.1
  have hts := C.1.2.2.2.2.1
  have hE := C.2.2
  rw [fM_lawWord] at hf
  refine lv_aload_n hx hb dX3_lawWord_0 rfl (lv_at hl 0 rfl) ?_
  refine va_ldcS (q := w.2.2.2.1 20) hx hb hown (hE.2 (121, "when", 20) (List.mem_of_getElem? (i := 0) rfl)) dX3_lawWord_1 ?_
  refine m_calli (rest := []) C hI hf (mm_is l N (by decide) _) rfl cqM_is ⟨rfl, rfl⟩ ⟨Nat.le_of_ble_eq_true rfl, Nat.le_of_ble_eq_true rfl⟩ rfl hl.1 rfl (Nat.le_of_ble_eq_true rfl) dX3_lawWord_3 (fun v2 x1 H locs hI hf => ?_)
  refine b_ifeq (tgt := 11) hx hb hf dX3_lawWord_6 (by decide) (fun hf => ?_) (fun hf => ?_)
  · refine lv_aload_n hx hb dX3_lawWord_11 rfl (lv_at hl 0 rfl) ?_
    refine va_ldcS (q := w.2.2.2.1 21) hx hb hown (hE.2 (123, "or", 21) (List.mem_of_getElem? (i := 1) rfl)) dX3_lawWord_12 ?_
    refine m_calli (rest := []) C hI hf (mm_is l N (by decide) _) rfl cqM_is ⟨rfl, rfl⟩ ⟨Nat.le_of_ble_eq_true rfl, Nat.le_of_ble_eq_true rfl⟩ rfl hl.1 rfl (Nat.le_of_ble_eq_true rfl) dX3_lawWord_14 (fun v4 x3 H locs hI hf => ?_)
    refine b_ifeq (tgt := 22) hx hb hf dX3_lawWord_17 (by decide) (fun hf => ?_) (fun hf => ?_)
    · refine lv_aload_n hx hb dX3_lawWord_22 rfl (lv_at hl 0 rfl) ?_
      refine va_ldcS (q := w.2.2.2.1 22) hx hb hown (hE.2 (125, "and", 22) (List.mem_of_getElem? (i := 2) rfl)) dX3_lawWord_23 ?_
      refine m_calli (rest := []) C hI hf (mm_is l N (by decide) _) rfl cqM_is ⟨rfl, rfl⟩ ⟨Nat.le_of_ble_eq_true rfl, Nat.le_of_ble_eq_true rfl⟩ rfl hl.1 rfl (Nat.le_of_ble_eq_true rfl) dX3_lawWord_25 (fun v6 x5 H locs hI hf => ?_)
      refine b_ifeq (tgt := 33) hx hb hf dX3_lawWord_28 (by decide) (fun hf => ?_) (fun hf => ?_)
      · refine lv_aload_n hx hb dX3_lawWord_33 rfl (lv_at hl 0 rfl) ?_
        refine va_ldcS (q := w.2.2.2.1 23) hx hb hown (hE.2 (127, "not", 23) (List.mem_of_getElem? (i := 3) rfl)) dX3_lawWord_34 ?_
        refine m_calli (rest := []) C hI hf (mm_is l N (by decide) _) rfl cqM_is ⟨rfl, rfl⟩ ⟨Nat.le_of_ble_eq_true rfl, Nat.le_of_ble_eq_true rfl⟩ rfl hl.1 rfl (Nat.le_of_ble_eq_true rfl) dX3_lawWord_36 (fun v8 x7 H locs hI hf => ?_)
        refine b_ifeq (tgt := 45) hx hb hf dX3_lawWord_39 (by decide) (fun hf => ?_) (fun hf => ?_)
        · refine lv_aload_n hx hb dX3_lawWord_45 rfl (lv_at hl 0 rfl) ?_
          refine va_ldcS (q := w.2.2.2.1 0) hx hb hown (hE.2 (129, "ready", 0) (List.mem_of_getElem? (i := 4) rfl)) dX3_lawWord_46 ?_
          refine m_calli (rest := []) C hI hf (mm_is l N (by decide) _) rfl cqM_is ⟨rfl, rfl⟩ ⟨Nat.le_of_ble_eq_true rfl, Nat.le_of_ble_eq_true rfl⟩ rfl hl.1 rfl (Nat.le_of_ble_eq_true rfl) dX3_lawWord_48 (fun v10 x9 H locs hI hf => ?_)
          refine b_ifeq (tgt := 57) hx hb hf dX3_lawWord_51 (by decide) (fun hf => ?_) (fun hf => ?_)
          · refine lv_aload_n hx hb dX3_lawWord_57 rfl (lv_at hl 0 rfl) ?_
            refine va_ldcS (q := w.2.2.2.1 1) hx hb hown (hE.2 (131, "leave", 1) (List.mem_of_getElem? (i := 5) rfl)) dX3_lawWord_58 ?_
            refine m_calli (rest := []) C hI hf (mm_is l N (by decide) _) rfl cqM_is ⟨rfl, rfl⟩ ⟨Nat.le_of_ble_eq_true rfl, Nat.le_of_ble_eq_true rfl⟩ rfl hl.1 rfl (Nat.le_of_ble_eq_true rfl) dX3_lawWord_60 (fun v12 x11 H locs hI hf => ?_)
            refine b_ifeq (tgt := 69) hx hb hf dX3_lawWord_63 (by decide) (fun hf => ?_) (fun hf => ?_)
            · refine lv_aload_n hx hb dX3_lawWord_69 rfl (lv_at hl 0 rfl) ?_
              refine va_ldcS (q := w.2.2.2.1 2) hx hb hown (hE.2 (133, "give", 2) (List.mem_of_getElem? (i := 6) rfl)) dX3_lawWord_70 ?_
              refine m_calli (rest := []) C hI hf (mm_is l N (by decide) _) rfl cqM_is ⟨rfl, rfl⟩ ⟨Nat.le_of_ble_eq_true rfl, Nat.le_of_ble_eq_true rfl⟩ rfl hl.1 rfl (Nat.le_of_ble_eq_true rfl) dX3_lawWord_72 (fun v14 x13 H locs hI hf => ?_)
              refine b_ifeq (tgt := 81) hx hb hf dX3_lawWord_75 (by decide) (fun hf => ?_) (fun hf => ?_)
              · refine lv_aload_n hx hb dX3_lawWord_81 rfl (lv_at hl 0 rfl) ?_
                refine va_ldcS (q := w.2.2.2.1 3) hx hb hown (hE.2 (135, "cost", 3) (List.mem_of_getElem? (i := 7) rfl)) dX3_lawWord_82 ?_
                refine m_calli (rest := []) C hI hf (mm_is l N (by decide) _) rfl cqM_is ⟨rfl, rfl⟩ ⟨Nat.le_of_ble_eq_true rfl, Nat.le_of_ble_eq_true rfl⟩ rfl hl.1 rfl (Nat.le_of_ble_eq_true rfl) dX3_lawWord_84 (fun v16 x15 H locs hI hf => ?_)
                refine b_ifeq (tgt := 95) hx hb hf dX3_lawWord_87 (by decide) (fun hf => ?_) (fun hf => ?_)
                · refine lv_aload_n hx hb dX3_lawWord_95 rfl (lv_at hl 0 rfl) ?_
                  refine m_calli (rest := []) C hI hf (mm_asked l N _) rfl cqM_asked ⟨rfl, rfl⟩ ⟨Nat.le_of_ble_eq_true rfl, Nat.le_of_ble_eq_true rfl⟩ rfl hl.1 rfl (Nat.le_of_ble_eq_true rfl) dX3_lawWord_96 (fun v18 x17 H locs hI hf => ?_)
                  exact m_iret C hI hf dX3_lawWord_99
                · refine lv_bipush (v := 23) hx hb dX3_lawWord_90 (by decide) ?_
                  refine lv_goto (tgt := 99) hx hb dX3_lawWord_92 (by decide) ?_
                  exact m_iret C hI hf dX3_lawWord_99
              · refine lv_bipush (v := 22) hx hb dX3_lawWord_78 (by decide) ?_
                exact m_iret C hI hf dX3_lawWord_80
            · refine lv_bipush (v := 21) hx hb dX3_lawWord_66 (by decide) ?_
              exact m_iret C hI hf dX3_lawWord_68
          · refine lv_bipush (v := 20) hx hb dX3_lawWord_54 (by decide) ?_
            exact m_iret C hI hf dX3_lawWord_56
        · refine lv_bipush (v := 6) hx hb dX3_lawWord_42 (by decide) ?_
          exact m_iret C hI hf dX3_lawWord_44
      · refine lv_iconst (v := 5) hx hb dX3_lawWord_31 (by decide) ?_
        exact m_iret C hI hf dX3_lawWord_32
    · refine lv_iconst (v := 4) hx hb dX3_lawWord_20 (by decide) ?_
      exact m_iret C hI hf dX3_lawWord_21
  · refine lv_iconst (v := 3) hx hb dX3_lawWord_9 (by decide) ?_
    exact m_iret C hI hf dX3_lawWord_10
/-! planWord()I -/
abbrev rmM_planWord : Room := { frames := 5, cells := 0, slots := 0, locals := 108 }
def fM_planWord (N : Nat) (x : MS) : Option (Int32 × MS) :=
  b2 (fM_is N x 8) fun v2 x1 =>
  if v2 = 0 then
    b2 (fM_is N x1 4) fun v4 x3 =>
    if v4 = 0 then
      b2 (fM_is N x3 5) fun v6 x5 =>
      if v6 = 0 then
        b2 (fM_is N x5 6) fun v8 x7 =>
        if v8 = 0 then
          b2 (fM_is N x7 7) fun v10 x9 =>
          lt (if v10 = 0 then 1 else 11 : Int32) fun v11 =>
          some (v11, x9)
        else
          some (10, x7)
      else
        some (9, x5)
    else
      some (8, x3)
  else
    some (7, x1)
theorem mm_planWord (l : Launch) (N : Nat) {w : mO} {A : Nat → Prop} : ∀ (x : MS) (r : Int32) (xr : MS), fM_planWord N x  = some (r, xr) → mMet l yX3_planWord (ws_ yX3_planWord cX3_planWord 1 (some .int)) rmM_planWord [.ref (w.2.2.1 28)] w A x (some (.int r)) xr := by
  intro x  r xr hf
  refine m_start (cc := cX3_planWord) (by decide +kernel) rfl (Nat.le_of_ble_eq_true rfl) rfl ?_
  intro p e s m args below meth c ls H locs C hI hl
  have hx := C.1.1
  have hb := C.1.2.1
  have hown := C.1.2.2.2.1
  have hts := C.1.2.2.2.2.1
  have hE := C.2.2
  rw [fM_planWord] at hf
  refine lv_aload_n hx hb dX3_planWord_0 rfl (lv_at hl 0 rfl) ?_
  refine va_ldcS (q := w.2.2.2.1 8) hx hb hown (hE.2 (140, "on", 8) (List.mem_of_getElem? (i := 17) rfl)) dX3_planWord_1 ?_
  refine m_calli (rest := []) C hI hf (mm_is l N (by decide) _) rfl cqM_is ⟨rfl, rfl⟩ ⟨Nat.le_of_ble_eq_true rfl, Nat.le_of_ble_eq_true rfl⟩ rfl hl.1 rfl (Nat.le_of_ble_eq_true rfl) dX3_planWord_3 (fun v2 x1 H locs hI hf => ?_)
  refine b_ifeq (tgt := 12) hx hb hf dX3_planWord_6 (by decide) (fun hf => ?_) (fun hf => ?_)
  · refine lv_aload_n hx hb dX3_planWord_12 rfl (lv_at hl 0 rfl) ?_
    refine va_ldcS (q := w.2.2.2.1 4) hx hb hown (hE.2 (142, "ask", 4) (List.mem_of_getElem? (i := 18) rfl)) dX3_planWord_13 ?_
    refine m_calli (rest := []) C hI hf (mm_is l N (by decide) _) rfl cqM_is ⟨rfl, rfl⟩ ⟨Nat.le_of_ble_eq_true rfl, Nat.le_of_ble_eq_true rfl⟩ rfl hl.1 rfl (Nat.le_of_ble_eq_true rfl) dX3_planWord_15 (fun v4 x3 H locs hI hf => ?_)
    refine b_ifeq (tgt := 24) hx hb hf dX3_planWord_18 (by decide) (fun hf => ?_) (fun hf => ?_)
    · refine lv_aload_n hx hb dX3_planWord_24 rfl (lv_at hl 0 rfl) ?_
      refine va_ldcS (q := w.2.2.2.1 5) hx hb hown (hE.2 (144, "bridge", 5) (List.mem_of_getElem? (i := 19) rfl)) dX3_planWord_25 ?_
      refine m_calli (rest := []) C hI hf (mm_is l N (by decide) _) rfl cqM_is ⟨rfl, rfl⟩ ⟨Nat.le_of_ble_eq_true rfl, Nat.le_of_ble_eq_true rfl⟩ rfl hl.1 rfl (Nat.le_of_ble_eq_true rfl) dX3_planWord_27 (fun v6 x5 H locs hI hf => ?_)
      refine b_ifeq (tgt := 36) hx hb hf dX3_planWord_30 (by decide) (fun hf => ?_) (fun hf => ?_)
      · refine lv_aload_n hx hb dX3_planWord_36 rfl (lv_at hl 0 rfl) ?_
        refine va_ldcS (q := w.2.2.2.1 6) hx hb hown (hE.2 (146, "pay", 6) (List.mem_of_getElem? (i := 20) rfl)) dX3_planWord_37 ?_
        refine m_calli (rest := []) C hI hf (mm_is l N (by decide) _) rfl cqM_is ⟨rfl, rfl⟩ ⟨Nat.le_of_ble_eq_true rfl, Nat.le_of_ble_eq_true rfl⟩ rfl hl.1 rfl (Nat.le_of_ble_eq_true rfl) dX3_planWord_39 (fun v8 x7 H locs hI hf => ?_)
        refine b_ifeq (tgt := 48) hx hb hf dX3_planWord_42 (by decide) (fun hf => ?_) (fun hf => ?_)
        · refine lv_aload_n hx hb dX3_planWord_48 rfl (lv_at hl 0 rfl) ?_
          refine va_ldcS (q := w.2.2.2.1 7) hx hb hown (hE.2 (148, "paper", 7) (List.mem_of_getElem? (i := 21) rfl)) dX3_planWord_49 ?_
          refine m_calli (rest := []) C hI hf (mm_is l N (by decide) _) rfl cqM_is ⟨rfl, rfl⟩ ⟨Nat.le_of_ble_eq_true rfl, Nat.le_of_ble_eq_true rfl⟩ rfl hl.1 rfl (Nat.le_of_ble_eq_true rfl) dX3_planWord_51 (fun v10 x9 H locs hI hf => ?_)
          suffices hJ : ∀ v11 : Int32, (v11 = (if v10 = 0 then 1 else 11 : Int32)) → W p l e rmM_planWord s m args below meth c H locs 0 0 (MQ below (mQ w A (some (.int r)) xr) args s 0 0 A) (F0 m 63 ls [.int v11]) by
            refine lv_if_eq (tgt := 62) hx hb dX3_planWord_54 (by decide) (fun hc => ?_) (fun hc => ?_)
            · refine lv_iconst (v := 1) hx hb dX3_planWord_62 (by decide) ?_
              exact hJ _ (if_pos hc).symm
            · refine lv_bipush (v := 11) hx hb dX3_planWord_57 (by decide) ?_
              refine lv_goto (tgt := 63) hx hb dX3_planWord_59 (by decide) ?_
              exact hJ _ (if_neg hc).symm
          intro v11 hv
          have hf := lt_of hv hf
          exact m_iret C hI hf dX3_planWord_63
        · refine lv_bipush (v := 10) hx hb dX3_planWord_45 (by decide) ?_
          exact m_iret C hI hf dX3_planWord_47
      · refine lv_bipush (v := 9) hx hb dX3_planWord_33 (by decide) ?_
        exact m_iret C hI hf dX3_planWord_35
    · refine lv_bipush (v := 8) hx hb dX3_planWord_21 (by decide) ?_
      exact m_iret C hI hf dX3_planWord_23
  · refine lv_bipush (v := 7) hx hb dX3_planWord_9 (by decide) ?_
    exact m_iret C hI hf dX3_planWord_11
/-! word()I -/
abbrev rmM_word : Room := { frames := 7, cells := 0, slots := 0, locals := 148 }
def fM_word (N : Nat) (x : MS) : Option (Int32 × MS) :=
  if (gS x 12) = 0 then
    b2 (fM_lawWord N x) fun v3 x2 =>
    some (v3, x2)
  else if (gS x 12) = 1 then
    b2 (fM_planWord N x) fun v6 x5 =>
    some (v6, x5)
  else if (gS x 12) = 2 then
    b2 (fM_is N x 9) fun v9 x8 =>
    if v9 = 0 then
      b2 (fM_is N x8 10) fun v11 x10 =>
      if v11 = 0 then
        b2 (fM_is N x10 11) fun v13 x12 =>
        if v13 = 0 then
          some (1, x12)
        else
          some (14, x12)
      else
        some (13, x10)
    else
      some (12, x8)
  else 
    b2 (fM_is N x 12) fun v15 x14 =>
  if v15 = 0 then
    b2 (fM_is N x14 9) fun v17 x16 =>
    if v17 = 0 then
      some (1, x16)
    else
      some (12, x16)
  else
    some (15, x14)
theorem mm_word (l : Launch) (N : Nat) {w : mO} {A : Nat → Prop} : ∀ (x : MS) (r : Int32) (xr : MS), fM_word N x  = some (r, xr) → mMet l yX3_word (ws_ yX3_word cX3_word 1 (some .int)) rmM_word [.ref (w.2.2.1 28)] w A x (some (.int r)) xr := by
  intro x  r xr hf
  refine m_start (cc := cX3_word) (by decide +kernel) rfl (Nat.le_of_ble_eq_true rfl) rfl ?_
  intro p e s m args below meth c ls H locs C hI hl
  have hx := C.1.1
  have hb := C.1.2.1
  have hown := C.1.2.2.2.1
  have hts := C.1.2.2.2.2.1
  have hE := C.2.2
  rw [fM_word] at hf
  refine lv_aload_n hx hb dX3_word_0 rfl (lv_at hl 0 rfl) ?_
  refine mg12 C hI dX3_word_1 ?_
  refine b_tIn (k := 0) (j := 0) (tgt := 32) hx hb hf dX3_word_4 (by decide +kernel) rfl (by decide) (fun hf => ?_) (fun h1 hf => ?_)
  · refine lv_aload_n hx hb dX3_word_32 rfl (lv_at hl 0 rfl) ?_
    refine m_calli (rest := []) C hI hf (mm_lawWord l N _) rfl cqM_lawWord ⟨rfl, rfl⟩ ⟨Nat.le_of_ble_eq_true rfl, Nat.le_of_ble_eq_true rfl⟩ rfl hl.1 rfl (Nat.le_of_ble_eq_true rfl) dX3_word_33 (fun v3 x2 H locs hI hf => ?_)
    exact m_iret C hI hf dX3_word_36
  refine b_tIn (k := 1) (j := 1) (tgt := 37) hx hb hf dX3_word_4 (by decide +kernel) rfl (by decide) (fun hf => ?_) (fun h4 hf => ?_)
  · refine lv_aload_n hx hb dX3_word_37 rfl (lv_at hl 0 rfl) ?_
    refine m_calli (rest := []) C hI hf (mm_planWord l N _) rfl cqM_planWord ⟨rfl, rfl⟩ ⟨Nat.le_of_ble_eq_true rfl, Nat.le_of_ble_eq_true rfl⟩ rfl hl.1 rfl (Nat.le_of_ble_eq_true rfl) dX3_word_38 (fun v6 x5 H locs hI hf => ?_)
    exact m_iret C hI hf dX3_word_41
  refine b_tIn (k := 2) (j := 2) (tgt := 42) hx hb hf dX3_word_4 (by decide +kernel) rfl (by decide) (fun hf => ?_) (fun h7 hf => ?_)
  · refine lv_aload_n hx hb dX3_word_42 rfl (lv_at hl 0 rfl) ?_
    refine va_ldcS (q := w.2.2.2.1 9) hx hb hown (hE.2 (99, "link", 9) (List.mem_of_getElem? (i := 8) rfl)) dX3_word_43 ?_
    refine m_calli (rest := []) C hI hf (mm_is l N (by decide) _) rfl cqM_is ⟨rfl, rfl⟩ ⟨Nat.le_of_ble_eq_true rfl, Nat.le_of_ble_eq_true rfl⟩ rfl hl.1 rfl (Nat.le_of_ble_eq_true rfl) dX3_word_45 (fun v9 x8 H locs hI hf => ?_)
    refine b_ifeq (tgt := 56) hx hb hf dX3_word_48 (by decide) (fun hf => ?_) (fun hf => ?_)
    · refine lv_aload_n hx hb dX3_word_56 rfl (lv_at hl 0 rfl) ?_
      refine va_ldcS (q := w.2.2.2.1 10) hx hb hown (hE.2 (159, "from", 10) (List.mem_of_getElem? (i := 22) rfl)) dX3_word_57 ?_
      refine m_calli (rest := []) C hI hf (mm_is l N (by decide) _) rfl cqM_is ⟨rfl, rfl⟩ ⟨Nat.le_of_ble_eq_true rfl, Nat.le_of_ble_eq_true rfl⟩ rfl hl.1 rfl (Nat.le_of_ble_eq_true rfl) dX3_word_59 (fun v11 x10 H locs hI hf => ?_)
      refine b_ifeq (tgt := 70) hx hb hf dX3_word_62 (by decide) (fun hf => ?_) (fun hf => ?_)
      · refine lv_aload_n hx hb dX3_word_70 rfl (lv_at hl 0 rfl) ?_
        refine va_ldcS (q := w.2.2.2.1 11) hx hb hown (hE.2 (161, "to", 11) (List.mem_of_getElem? (i := 23) rfl)) dX3_word_71 ?_
        refine m_calli (rest := []) C hI hf (mm_is l N (by decide) _) rfl cqM_is ⟨rfl, rfl⟩ ⟨Nat.le_of_ble_eq_true rfl, Nat.le_of_ble_eq_true rfl⟩ rfl hl.1 rfl (Nat.le_of_ble_eq_true rfl) dX3_word_73 (fun v13 x12 H locs hI hf => ?_)
        refine b_ifeq (tgt := 84) hx hb hf dX3_word_76 (by decide) (fun hf => ?_) (fun hf => ?_)
        · refine lv_iconst (v := 1) hx hb dX3_word_84 (by decide) ?_
          exact m_iret C hI hf dX3_word_85
        · refine lv_bipush (v := 14) hx hb dX3_word_79 (by decide) ?_
          refine lv_goto (tgt := 85) hx hb dX3_word_81 (by decide) ?_
          exact m_iret C hI hf dX3_word_85
      · refine lv_bipush (v := 13) hx hb dX3_word_65 (by decide) ?_
        refine lv_goto (tgt := 85) hx hb dX3_word_67 (by decide) ?_
        exact m_iret C hI hf dX3_word_85
    · refine lv_bipush (v := 12) hx hb dX3_word_51 (by decide) ?_
      refine lv_goto (tgt := 85) hx hb dX3_word_53 (by decide) ?_
      exact m_iret C hI hf dX3_word_85
  have h1 : (gS x 12).toInt ≠ 0 := sw_ne h1
  have h4 : (gS x 12).toInt ≠ 1 := sw_ne h4
  have h7 : (gS x 12).toInt ≠ 2 := sw_ne h7
  refine lv_tableOut (tgt := 86) hx hb dX3_word_4 (by omega) (by decide) ?_
  refine lv_aload_n hx hb dX3_word_86 rfl (lv_at hl 0 rfl) ?_
  refine va_ldcS (q := w.2.2.2.1 12) hx hb hown (hE.2 (113, "day", 12) (List.mem_of_getElem? (i := 13) rfl)) dX3_word_87 ?_
  refine m_calli (rest := []) C hI hf (mm_is l N (by decide) _) rfl cqM_is ⟨rfl, rfl⟩ ⟨Nat.le_of_ble_eq_true rfl, Nat.le_of_ble_eq_true rfl⟩ rfl hl.1 rfl (Nat.le_of_ble_eq_true rfl) dX3_word_89 (fun v15 x14 H locs hI hf => ?_)
  refine b_ifeq (tgt := 100) hx hb hf dX3_word_92 (by decide) (fun hf => ?_) (fun hf => ?_)
  · refine lv_aload_n hx hb dX3_word_100 rfl (lv_at hl 0 rfl) ?_
    refine va_ldcS (q := w.2.2.2.1 9) hx hb hown (hE.2 (99, "link", 9) (List.mem_of_getElem? (i := 8) rfl)) dX3_word_101 ?_
    refine m_calli (rest := []) C hI hf (mm_is l N (by decide) _) rfl cqM_is ⟨rfl, rfl⟩ ⟨Nat.le_of_ble_eq_true rfl, Nat.le_of_ble_eq_true rfl⟩ rfl hl.1 rfl (Nat.le_of_ble_eq_true rfl) dX3_word_103 (fun v17 x16 H locs hI hf => ?_)
    refine b_ifeq (tgt := 114) hx hb hf dX3_word_106 (by decide) (fun hf => ?_) (fun hf => ?_)
    · refine lv_iconst (v := 1) hx hb dX3_word_114 (by decide) ?_
      exact m_iret C hI hf dX3_word_115
    · refine lv_bipush (v := 12) hx hb dX3_word_109 (by decide) ?_
      refine lv_goto (tgt := 115) hx hb dX3_word_111 (by decide) ?_
      exact m_iret C hI hf dX3_word_115
  · refine lv_bipush (v := 15) hx hb dX3_word_95 (by decide) ?_
    refine lv_goto (tgt := 115) hx hb dX3_word_97 (by decide) ?_
    exact m_iret C hI hf dX3_word_115
/-! next0()V -/
abbrev rmM_next0 : Room := { frames := 8, cells := 0, slots := 0, locals := 168 }
def fM_next0_b76 (N : Nat) : Nat → MS → Option MS
  | 0, _ => none
  | n + 1, x =>
  b2 (fM_see N x (gS x 17)) fun v2 x1 =>
  (fM_isLetter N v2).bind fun v3 =>
  if v3 = 0 then
    b2 (fM_word N x1) fun v5 x4 =>
    some (sS x4 18 v5)
  else
    fM_next0_b76 N n (sS x1 17 ((gS x1 17) + 1))
theorem w_fM_next0_b76 {N : Nat} {xr : MS} (C : mC w A p s m args meth c cX3_next0 3 none) : ∀ (n : Nat) (x : MS) (H : Heap) (locs : List Loc) (ls : Array Slot), mI w A x s.heap H locs → lv_has ls 3 [(0, .ref (w.2.2.1 28))] → fM_next0_b76 N n x  = some xr → W p l e rmM_next0 s m args below meth c H locs 0 0 (MQ below (mQ w A none xr) args s 0 0 A) (F0 m 76 ls []) := by
  have hx := C.1.1
  have hb := C.1.2.1
  have hown := C.1.2.2.2.1
  have hts := C.1.2.2.2.2.1
  have hE := C.2.2
  intro n
  induction n with
  | zero => intro x  H locs ls hI hl hf; rw [fM_next0_b76] at hf; cases hf
  | succ n ih =>
  intro x  H locs ls hI hl hf
  rw [fM_next0_b76] at hf
  refine lv_aload_n hx hb dX3_next0_76 rfl (lv_at hl 0 rfl) ?_
  refine lv_aload_n hx hb dX3_next0_77 rfl (lv_at hl 0 rfl) ?_
  refine mg17 C hI dX3_next0_78 ?_
  refine m_calli (rest := []) C hI hf (mm_see l N _ _) rfl cqM_see ⟨rfl, rfl⟩ ⟨Nat.le_of_ble_eq_true rfl, Nat.le_of_ble_eq_true rfl⟩ rfl hl.1 rfl (Nat.le_of_ble_eq_true rfl) dX3_next0_81 (fun v2 x1 H locs hI hf => ?_)
  refine g_calliS (rest := []) C.1 hf (smM_isLetter l N _) cqM_M_isLetter ⟨rfl, rfl⟩ ⟨Nat.le_of_ble_eq_true rfl, Nat.le_of_ble_eq_true rfl⟩ rfl hl.1 rfl (Nat.le_of_ble_eq_true rfl) ⟨Nat.zero_le _, Nat.zero_le _⟩ dX3_next0_84 (fun v3 hf => ?_)
  refine b_ifeq (tgt := 103) hx hb hf dX3_next0_87 (by decide) (fun hf => ?_) (fun hf => ?_)
  · refine lv_aload_n hx hb dX3_next0_103 rfl (lv_at hl 0 rfl) ?_
    refine lv_aload_n hx hb dX3_next0_104 rfl (lv_at hl 0 rfl) ?_
    refine m_calli (rest := [.ref (w.2.2.1 28)]) C hI hf (mm_word l N _) rfl cqM_word ⟨rfl, rfl⟩ ⟨Nat.le_of_ble_eq_true rfl, Nat.le_of_ble_eq_true rfl⟩ rfl hl.1 rfl (Nat.le_of_ble_eq_true rfl) dX3_next0_105 (fun v5 x4 H locs hI hf => ?_)
    refine mp18 C hI dX3_next0_108 (fun H locs hI => ?_)
    refine lv_goto (tgt := 306) hx hb dX3_next0_111 (by decide) ?_
    exact m_vret C hI hf dX3_next0_306
  · refine lv_aload_n hx hb dX3_next0_90 rfl (lv_at hl 0 rfl) ?_
    refine lv_dup hx hb dX3_next0_91 rfl ?_
    refine mg17 C hI dX3_next0_92 ?_
    refine lv_iconst (v := 1) hx hb dX3_next0_95 (by decide) ?_
    refine lv_iadd hx hb dX3_next0_96 ?_
    refine mp17 C hI dX3_next0_97 (fun H locs hI => ?_)
    refine lv_goto (tgt := 76) hx hb dX3_next0_100 (by decide) ?_
    exact ih (sS x1 17 ((gS x1 17) + 1)) _ _ _ hI (lv_sub hl [0] rfl) hf
def fM_next0_b126 (N : Nat) : Nat → MS → Option MS
  | 0, _ => none
  | n + 1, x =>
  b2 (fM_see N x (gS x 17)) fun v2 x1 =>
  (fM_isDigit N v2).bind fun v3 =>
  if v3 = 0 then
    lt (if 5 ≤ ((gS x1 17) - (gS x1 19)) then 1 else 2 : Int32) fun v4 =>
    some (sS x1 18 v4)
  else
    if ((gS x1 19) + 4) ≤ (gS x1 17) then
      fM_next0_b126 N n (sS x1 17 ((gS x1 17) + 1))
    else
      b2 (fM_see N x1 (gS x1 17)) fun v6 x5 =>
      fM_next0_b126 N n (sS (sS x5 20 (((10 * (gS x1 20)) + v6) - 48)) 17 ((gS (sS x5 20 (((10 * (gS x1 20)) + v6) - 48)) 17) + 1))
theorem w_fM_next0_b126 {N : Nat} {xr : MS} (C : mC w A p s m args meth c cX3_next0 3 none) : ∀ (n : Nat) (x : MS) (H : Heap) (locs : List Loc) (ls : Array Slot), mI w A x s.heap H locs → lv_has ls 3 [(0, .ref (w.2.2.1 28))] → fM_next0_b126 N n x  = some xr → W p l e rmM_next0 s m args below meth c H locs 0 0 (MQ below (mQ w A none xr) args s 0 0 A) (F0 m 126 ls []) := by
  have hx := C.1.1
  have hb := C.1.2.1
  have hown := C.1.2.2.2.1
  have hts := C.1.2.2.2.2.1
  have hE := C.2.2
  intro n
  induction n with
  | zero => intro x  H locs ls hI hl hf; rw [fM_next0_b126] at hf; cases hf
  | succ n ih =>
  intro x  H locs ls hI hl hf
  rw [fM_next0_b126] at hf
  refine lv_aload_n hx hb dX3_next0_126 rfl (lv_at hl 0 rfl) ?_
  refine lv_aload_n hx hb dX3_next0_127 rfl (lv_at hl 0 rfl) ?_
  refine mg17 C hI dX3_next0_128 ?_
  refine m_calli (rest := []) C hI hf (mm_see l N _ _) rfl cqM_see ⟨rfl, rfl⟩ ⟨Nat.le_of_ble_eq_true rfl, Nat.le_of_ble_eq_true rfl⟩ rfl hl.1 rfl (Nat.le_of_ble_eq_true rfl) dX3_next0_131 (fun v2 x1 H locs hI hf => ?_)
  refine g_calliS (rest := []) C.1 hf (smM_isDigit l N _) cqM_M_isDigit ⟨rfl, rfl⟩ ⟨Nat.le_of_ble_eq_true rfl, Nat.le_of_ble_eq_true rfl⟩ rfl hl.1 rfl (Nat.le_of_ble_eq_true rfl) ⟨Nat.zero_le _, Nat.zero_le _⟩ dX3_next0_134 (fun v3 hf => ?_)
  refine b_ifeq (tgt := 189) hx hb hf dX3_next0_137 (by decide) (fun hf => ?_) (fun hf => ?_)
  · refine lv_aload_n hx hb dX3_next0_189 rfl (lv_at hl 0 rfl) ?_
    refine lv_aload_n hx hb dX3_next0_190 rfl (lv_at hl 0 rfl) ?_
    refine mg17 C hI dX3_next0_191 ?_
    refine lv_aload_n hx hb dX3_next0_194 rfl (lv_at hl 0 rfl) ?_
    refine mg19 C hI dX3_next0_195 ?_
    refine lv_isub hx hb dX3_next0_198 ?_
    refine lv_iconst (v := 5) hx hb dX3_next0_199 (by decide) ?_
    suffices hJ : ∀ v4 : Int32, (v4 = (if 5 ≤ ((gS x1 17) - (gS x1 19)) then 1 else 2 : Int32)) → W p l e rmM_next0 s m args below meth c H locs 0 0 (MQ below (mQ w A none xr) args s 0 0 A) (F0 m 208 ls [.int v4, .ref (w.2.2.1 28)]) by
      refine lv_icmp_ge (tgt := 207) hx hb dX3_next0_200 (by decide) (fun hc => ?_) (fun hc => ?_)
      · refine lv_iconst (v := 1) hx hb dX3_next0_207 (by decide) ?_
        exact hJ _ (if_pos hc).symm
      · refine lv_iconst (v := 2) hx hb dX3_next0_203 (by decide) ?_
        refine lv_goto (tgt := 208) hx hb dX3_next0_204 (by decide) ?_
        exact hJ _ (if_neg hc).symm
    intro v4 hv
    have hf := lt_of hv hf
    refine mp18 C hI dX3_next0_208 (fun H locs hI => ?_)
    refine lv_goto (tgt := 306) hx hb dX3_next0_211 (by decide) ?_
    exact m_vret C hI hf dX3_next0_306
  · refine lv_aload_n hx hb dX3_next0_140 rfl (lv_at hl 0 rfl) ?_
    refine mg17 C hI dX3_next0_141 ?_
    refine lv_aload_n hx hb dX3_next0_144 rfl (lv_at hl 0 rfl) ?_
    refine mg19 C hI dX3_next0_145 ?_
    refine lv_iconst (v := 4) hx hb dX3_next0_148 (by decide) ?_
    refine lv_iadd hx hb dX3_next0_149 ?_
    refine b_icge (tgt := 176) hx hb hf dX3_next0_150 (by decide) (fun hf => ?_) (fun hf => ?_)
    · refine lv_aload_n hx hb dX3_next0_176 rfl (lv_at hl 0 rfl) ?_
      refine lv_dup hx hb dX3_next0_177 rfl ?_
      refine mg17 C hI dX3_next0_178 ?_
      refine lv_iconst (v := 1) hx hb dX3_next0_181 (by decide) ?_
      refine lv_iadd hx hb dX3_next0_182 ?_
      refine mp17 C hI dX3_next0_183 (fun H locs hI => ?_)
      refine lv_goto (tgt := 126) hx hb dX3_next0_186 (by decide) ?_
      exact ih (sS x1 17 ((gS x1 17) + 1)) _ _ _ hI (lv_sub hl [0] rfl) hf
    · refine lv_aload_n hx hb dX3_next0_153 rfl (lv_at hl 0 rfl) ?_
      refine lv_bipush (v := 10) hx hb dX3_next0_154 (by decide) ?_
      refine lv_aload_n hx hb dX3_next0_156 rfl (lv_at hl 0 rfl) ?_
      refine mg20 C hI dX3_next0_157 ?_
      refine lv_imul hx hb dX3_next0_160 ?_
      refine lv_aload_n hx hb dX3_next0_161 rfl (lv_at hl 0 rfl) ?_
      refine lv_aload_n hx hb dX3_next0_162 rfl (lv_at hl 0 rfl) ?_
      refine mg17 C hI dX3_next0_163 ?_
      refine m_calli (rest := [.int (10 * (gS x1 20)), .ref (w.2.2.1 28)]) C hI hf (mm_see l N _ _) rfl cqM_see ⟨rfl, rfl⟩ ⟨Nat.le_of_ble_eq_true rfl, Nat.le_of_ble_eq_true rfl⟩ rfl hl.1 rfl (Nat.le_of_ble_eq_true rfl) dX3_next0_166 (fun v6 x5 H locs hI hf => ?_)
      refine lv_iadd hx hb dX3_next0_169 ?_
      refine lv_bipush (v := 48) hx hb dX3_next0_170 (by decide) ?_
      refine lv_isub hx hb dX3_next0_172 ?_
      refine mp20 C hI dX3_next0_173 (fun H locs hI => ?_)
      refine lv_aload_n hx hb dX3_next0_176 rfl (lv_at hl 0 rfl) ?_
      refine lv_dup hx hb dX3_next0_177 rfl ?_
      refine mg17 C hI dX3_next0_178 ?_
      refine lv_iconst (v := 1) hx hb dX3_next0_181 (by decide) ?_
      refine lv_iadd hx hb dX3_next0_182 ?_
      refine mp17 C hI dX3_next0_183 (fun H locs hI => ?_)
      refine lv_goto (tgt := 126) hx hb dX3_next0_186 (by decide) ?_
      exact ih (sS (sS x5 20 (((10 * (gS x1 20)) + v6) - 48)) 17 ((gS (sS x5 20 (((10 * (gS x1 20)) + v6) - 48)) 17) + 1)) _ _ _ hI (lv_sub hl [0] rfl) hf
def fM_next0_b289 (N : Nat) (x : MS) (l1 : Int32) (s0 : Int32) : Option MS :=
  lt (if s0 = 0 then 1 else 100 + l1 : Int32) fun v1 =>
  some (sS x 18 v1)
theorem w_fM_next0_b289 {N : Nat} {xr : MS} (C : mC w A p s m args meth c cX3_next0 3 none) : ∀ (x : MS) (l1 : Int32) (s0 : Int32) (H : Heap) (locs : List Loc) (ls : Array Slot), mI w A x s.heap H locs → lv_has ls 3 [(0, .ref (w.2.2.1 28)), (1, .int l1)] → fM_next0_b289 N x l1 s0 = some xr → W p l e rmM_next0 s m args below meth c H locs 0 0 (MQ below (mQ w A none xr) args s 0 0 A) (F0 m 289 ls [.int s0]) := by
  have hx := C.1.1
  have hb := C.1.2.1
  have hown := C.1.2.2.2.1
  have hts := C.1.2.2.2.2.1
  have hE := C.2.2
  intro x l1 s0 H locs ls hI hl hf
  rw [fM_next0_b289] at hf
  refine lv_istore_n (lv' := [(2, .int s0), (0, .ref (w.2.2.1 28)), (1, .int l1)]) hx hb dX3_next0_289 rfl hl (by decide) rfl (fun ls hl => ?_)
  refine lv_aload_n hx hb dX3_next0_290 rfl (lv_at hl 1 rfl) ?_
  refine lv_iload_n hx hb dX3_next0_291 rfl (lv_at hl 0 rfl) ?_
  suffices hJ : ∀ v1 : Int32, (v1 = (if s0 = 0 then 1 else 100 + l1 : Int32)) → W p l e rmM_next0 s m args below meth c H locs 0 0 (MQ below (mQ w A none xr) args s 0 0 A) (F0 m 303 ls [.int v1, .ref (w.2.2.1 28)]) by
    refine lv_if_eq (tgt := 302) hx hb dX3_next0_292 (by decide) (fun hc => ?_) (fun hc => ?_)
    · refine lv_iconst (v := 1) hx hb dX3_next0_302 (by decide) ?_
      exact hJ _ (if_pos hc).symm
    · refine lv_bipush (v := 100) hx hb dX3_next0_295 (by decide) ?_
      refine lv_iload_n hx hb dX3_next0_297 rfl (lv_at hl 2 rfl) ?_
      refine lv_iadd hx hb dX3_next0_298 ?_
      refine lv_goto (tgt := 303) hx hb dX3_next0_299 (by decide) ?_
      exact hJ _ (if_neg hc).symm
  intro v1 hv
  have hf := lt_of hv hf
  refine mp18 C hI dX3_next0_303 (fun H locs hI => ?_)
  exact m_vret C hI hf dX3_next0_306
def fM_next0_b0 (N : Nat) : Nat → MS → Option MS
  | 0, _ => none
  | n + 1, x =>
  b2 (fM_see N x (gS x 17)) fun v2 x1 =>
  if v2 = 32 then
    fM_next0_b0 N n (sS x1 17 ((gS x1 17) + 1))
  else
    b2 (fM_see N x1 (gS x1 17)) fun v4 x3 =>
    if v4 = 10 then
      fM_next0_b0 N n (sS x3 17 ((gS x3 17) + 1))
    else
      b2 (fM_see N (sS x3 19 (gS x3 17)) (gS (sS x3 19 (gS x3 17)) 17)) fun v6 x5 =>
      if v6 = (-1) then
        some (sS x5 18 0)
      else
        (fM_isLetter N v6).bind fun v7 =>
        if v7 = 0 then
          (fM_isDigit N v6).bind fun v8 =>
          if v8 = 0 then
            if v6 = 59 then
              fM_next0_b289 N (sS x5 17 ((gS x5 17) + 1)) v6 1
            else
              if v6 = 43 then
                fM_next0_b289 N (sS x5 17 ((gS x5 17) + 1)) v6 1
              else
                if v6 = 45 then
                  fM_next0_b289 N (sS x5 17 ((gS x5 17) + 1)) v6 1
                else
                  if v6 = 42 then
                    fM_next0_b289 N (sS x5 17 ((gS x5 17) + 1)) v6 1
                  else
                    if v6 = 47 then
                      fM_next0_b289 N (sS x5 17 ((gS x5 17) + 1)) v6 1
                    else
                      if v6 = 40 then
                        fM_next0_b289 N (sS x5 17 ((gS x5 17) + 1)) v6 1
                      else
                        if v6 = 41 then
                          fM_next0_b289 N (sS x5 17 ((gS x5 17) + 1)) v6 1
                        else
                          if v6 = 60 then
                            fM_next0_b289 N (sS x5 17 ((gS x5 17) + 1)) v6 1
                          else
                            if v6 = 61 then
                              fM_next0_b289 N (sS x5 17 ((gS x5 17) + 1)) v6 1
                            else
                              if v6 = 62 then
                                fM_next0_b289 N (sS x5 17 ((gS x5 17) + 1)) v6 1
                              else
                                fM_next0_b289 N (sS x5 17 ((gS x5 17) + 1)) v6 0
          else
            fM_next0_b126 N N (sS x5 20 0)
        else
          fM_next0_b76 N N x5
theorem w_fM_next0_b0 {N : Nat} {xr : MS} (C : mC w A p s m args meth c cX3_next0 3 none) : ∀ (n : Nat) (x : MS) (H : Heap) (locs : List Loc) (ls : Array Slot), mI w A x s.heap H locs → lv_has ls 3 [(0, .ref (w.2.2.1 28))] → fM_next0_b0 N n x  = some xr → W p l e rmM_next0 s m args below meth c H locs 0 0 (MQ below (mQ w A none xr) args s 0 0 A) (F0 m 0 ls []) := by
  have hx := C.1.1
  have hb := C.1.2.1
  have hown := C.1.2.2.2.1
  have hts := C.1.2.2.2.2.1
  have hE := C.2.2
  intro n
  induction n with
  | zero => intro x  H locs ls hI hl hf; rw [fM_next0_b0] at hf; cases hf
  | succ n ih =>
  intro x  H locs ls hI hl hf
  rw [fM_next0_b0] at hf
  refine lv_aload_n hx hb dX3_next0_0 rfl (lv_at hl 0 rfl) ?_
  refine lv_aload_n hx hb dX3_next0_1 rfl (lv_at hl 0 rfl) ?_
  refine mg17 C hI dX3_next0_2 ?_
  refine m_calli (rest := []) C hI hf (mm_see l N _ _) rfl cqM_see ⟨rfl, rfl⟩ ⟨Nat.le_of_ble_eq_true rfl, Nat.le_of_ble_eq_true rfl⟩ rfl hl.1 rfl (Nat.le_of_ble_eq_true rfl) dX3_next0_5 (fun v2 x1 H locs hI hf => ?_)
  refine lv_bipush (v := 32) hx hb dX3_next0_8 (by decide) ?_
  refine b_iceq (tgt := 26) hx hb hf dX3_next0_10 (by decide) (fun hf => ?_) (fun hf => ?_)
  · refine lv_aload_n hx hb dX3_next0_26 rfl (lv_at hl 0 rfl) ?_
    refine lv_dup hx hb dX3_next0_27 rfl ?_
    refine mg17 C hI dX3_next0_28 ?_
    refine lv_iconst (v := 1) hx hb dX3_next0_31 (by decide) ?_
    refine lv_iadd hx hb dX3_next0_32 ?_
    refine mp17 C hI dX3_next0_33 (fun H locs hI => ?_)
    refine lv_goto (tgt := 0) hx hb dX3_next0_36 (by decide) ?_
    exact ih (sS x1 17 ((gS x1 17) + 1)) _ _ _ hI (lv_sub hl [0] rfl) hf
  · refine lv_aload_n hx hb dX3_next0_13 rfl (lv_at hl 0 rfl) ?_
    refine lv_aload_n hx hb dX3_next0_14 rfl (lv_at hl 0 rfl) ?_
    refine mg17 C hI dX3_next0_15 ?_
    refine m_calli (rest := []) C hI hf (mm_see l N _ _) rfl cqM_see ⟨rfl, rfl⟩ ⟨Nat.le_of_ble_eq_true rfl, Nat.le_of_ble_eq_true rfl⟩ rfl hl.1 rfl (Nat.le_of_ble_eq_true rfl) dX3_next0_18 (fun v4 x3 H locs hI hf => ?_)
    refine lv_bipush (v := 10) hx hb dX3_next0_21 (by decide) ?_
    refine b_icne (tgt := 39) hx hb hf dX3_next0_23 (by decide) (fun hf => ?_) (fun hf => ?_)
    · refine lv_aload_n hx hb dX3_next0_39 rfl (lv_at hl 0 rfl) ?_
      refine lv_aload_n hx hb dX3_next0_40 rfl (lv_at hl 0 rfl) ?_
      refine mg17 C hI dX3_next0_41 ?_
      refine mp19 C hI dX3_next0_44 (fun H locs hI => ?_)
      refine lv_aload_n hx hb dX3_next0_47 rfl (lv_at hl 0 rfl) ?_
      refine lv_aload_n hx hb dX3_next0_48 rfl (lv_at hl 0 rfl) ?_
      refine mg17 C hI dX3_next0_49 ?_
      refine m_calli (rest := []) C hI hf (mm_see l N _ _) rfl cqM_see ⟨rfl, rfl⟩ ⟨Nat.le_of_ble_eq_true rfl, Nat.le_of_ble_eq_true rfl⟩ rfl hl.1 rfl (Nat.le_of_ble_eq_true rfl) dX3_next0_52 (fun v6 x5 H locs hI hf => ?_)
      refine lv_istore_n (lv' := [(1, .int v6), (0, .ref (w.2.2.1 28))]) hx hb dX3_next0_55 rfl hl (by decide) rfl (fun ls hl => ?_)
      refine lv_iload_n hx hb dX3_next0_56 rfl (lv_at hl 0 rfl) ?_
      refine lv_iconst (v := (-1)) hx hb dX3_next0_57 (by decide) ?_
      refine b_icne (tgt := 69) hx hb hf dX3_next0_58 (by decide) (fun hf => ?_) (fun hf => ?_)
      · refine lv_iload_n hx hb dX3_next0_69 rfl (lv_at hl 0 rfl) ?_
        refine g_calliS (rest := []) C.1 hf (smM_isLetter l N _) cqM_M_isLetter ⟨rfl, rfl⟩ ⟨Nat.le_of_ble_eq_true rfl, Nat.le_of_ble_eq_true rfl⟩ rfl hl.1 rfl (Nat.le_of_ble_eq_true rfl) ⟨Nat.zero_le _, Nat.zero_le _⟩ dX3_next0_70 (fun v7 hf => ?_)
        refine b_ifeq (tgt := 114) hx hb hf dX3_next0_73 (by decide) (fun hf => ?_) (fun hf => ?_)
        · refine lv_iload_n hx hb dX3_next0_114 rfl (lv_at hl 0 rfl) ?_
          refine g_calliS (rest := []) C.1 hf (smM_isDigit l N _) cqM_M_isDigit ⟨rfl, rfl⟩ ⟨Nat.le_of_ble_eq_true rfl, Nat.le_of_ble_eq_true rfl⟩ rfl hl.1 rfl (Nat.le_of_ble_eq_true rfl) ⟨Nat.zero_le _, Nat.zero_le _⟩ dX3_next0_115 (fun v8 hf => ?_)
          refine b_ifeq (tgt := 214) hx hb hf dX3_next0_118 (by decide) (fun hf => ?_) (fun hf => ?_)
          · refine lv_aload_n hx hb dX3_next0_214 rfl (lv_at hl 1 rfl) ?_
            refine lv_dup hx hb dX3_next0_215 rfl ?_
            refine mg17 C hI dX3_next0_216 ?_
            refine lv_iconst (v := 1) hx hb dX3_next0_219 (by decide) ?_
            refine lv_iadd hx hb dX3_next0_220 ?_
            refine mp17 C hI dX3_next0_221 (fun H locs hI => ?_)
            refine lv_iload_n hx hb dX3_next0_224 rfl (lv_at hl 0 rfl) ?_
            refine lv_bipush (v := 59) hx hb dX3_next0_225 (by decide) ?_
            refine b_iceq (tgt := 284) hx hb hf dX3_next0_227 (by decide) (fun hf => ?_) (fun hf => ?_)
            · refine lv_iconst (v := 1) hx hb dX3_next0_284 (by decide) ?_
              refine lv_goto (tgt := 289) hx hb dX3_next0_285 (by decide) ?_
              exact w_fM_next0_b289 C (sS x5 17 ((gS x5 17) + 1)) v6 1 _ _ _ hI (lv_sub hl [1, 0] rfl) hf
            · refine lv_iload_n hx hb dX3_next0_230 rfl (lv_at hl 0 rfl) ?_
              refine lv_bipush (v := 43) hx hb dX3_next0_231 (by decide) ?_
              refine b_iceq (tgt := 284) hx hb hf dX3_next0_233 (by decide) (fun hf => ?_) (fun hf => ?_)
              · refine lv_iconst (v := 1) hx hb dX3_next0_284 (by decide) ?_
                refine lv_goto (tgt := 289) hx hb dX3_next0_285 (by decide) ?_
                exact w_fM_next0_b289 C (sS x5 17 ((gS x5 17) + 1)) v6 1 _ _ _ hI (lv_sub hl [1, 0] rfl) hf
              · refine lv_iload_n hx hb dX3_next0_236 rfl (lv_at hl 0 rfl) ?_
                refine lv_bipush (v := 45) hx hb dX3_next0_237 (by decide) ?_
                refine b_iceq (tgt := 284) hx hb hf dX3_next0_239 (by decide) (fun hf => ?_) (fun hf => ?_)
                · refine lv_iconst (v := 1) hx hb dX3_next0_284 (by decide) ?_
                  refine lv_goto (tgt := 289) hx hb dX3_next0_285 (by decide) ?_
                  exact w_fM_next0_b289 C (sS x5 17 ((gS x5 17) + 1)) v6 1 _ _ _ hI (lv_sub hl [1, 0] rfl) hf
                · refine lv_iload_n hx hb dX3_next0_242 rfl (lv_at hl 0 rfl) ?_
                  refine lv_bipush (v := 42) hx hb dX3_next0_243 (by decide) ?_
                  refine b_iceq (tgt := 284) hx hb hf dX3_next0_245 (by decide) (fun hf => ?_) (fun hf => ?_)
                  · refine lv_iconst (v := 1) hx hb dX3_next0_284 (by decide) ?_
                    refine lv_goto (tgt := 289) hx hb dX3_next0_285 (by decide) ?_
                    exact w_fM_next0_b289 C (sS x5 17 ((gS x5 17) + 1)) v6 1 _ _ _ hI (lv_sub hl [1, 0] rfl) hf
                  · refine lv_iload_n hx hb dX3_next0_248 rfl (lv_at hl 0 rfl) ?_
                    refine lv_bipush (v := 47) hx hb dX3_next0_249 (by decide) ?_
                    refine b_iceq (tgt := 284) hx hb hf dX3_next0_251 (by decide) (fun hf => ?_) (fun hf => ?_)
                    · refine lv_iconst (v := 1) hx hb dX3_next0_284 (by decide) ?_
                      refine lv_goto (tgt := 289) hx hb dX3_next0_285 (by decide) ?_
                      exact w_fM_next0_b289 C (sS x5 17 ((gS x5 17) + 1)) v6 1 _ _ _ hI (lv_sub hl [1, 0] rfl) hf
                    · refine lv_iload_n hx hb dX3_next0_254 rfl (lv_at hl 0 rfl) ?_
                      refine lv_bipush (v := 40) hx hb dX3_next0_255 (by decide) ?_
                      refine b_iceq (tgt := 284) hx hb hf dX3_next0_257 (by decide) (fun hf => ?_) (fun hf => ?_)
                      · refine lv_iconst (v := 1) hx hb dX3_next0_284 (by decide) ?_
                        refine lv_goto (tgt := 289) hx hb dX3_next0_285 (by decide) ?_
                        exact w_fM_next0_b289 C (sS x5 17 ((gS x5 17) + 1)) v6 1 _ _ _ hI (lv_sub hl [1, 0] rfl) hf
                      · refine lv_iload_n hx hb dX3_next0_260 rfl (lv_at hl 0 rfl) ?_
                        refine lv_bipush (v := 41) hx hb dX3_next0_261 (by decide) ?_
                        refine b_iceq (tgt := 284) hx hb hf dX3_next0_263 (by decide) (fun hf => ?_) (fun hf => ?_)
                        · refine lv_iconst (v := 1) hx hb dX3_next0_284 (by decide) ?_
                          refine lv_goto (tgt := 289) hx hb dX3_next0_285 (by decide) ?_
                          exact w_fM_next0_b289 C (sS x5 17 ((gS x5 17) + 1)) v6 1 _ _ _ hI (lv_sub hl [1, 0] rfl) hf
                        · refine lv_iload_n hx hb dX3_next0_266 rfl (lv_at hl 0 rfl) ?_
                          refine lv_bipush (v := 60) hx hb dX3_next0_267 (by decide) ?_
                          refine b_iceq (tgt := 284) hx hb hf dX3_next0_269 (by decide) (fun hf => ?_) (fun hf => ?_)
                          · refine lv_iconst (v := 1) hx hb dX3_next0_284 (by decide) ?_
                            refine lv_goto (tgt := 289) hx hb dX3_next0_285 (by decide) ?_
                            exact w_fM_next0_b289 C (sS x5 17 ((gS x5 17) + 1)) v6 1 _ _ _ hI (lv_sub hl [1, 0] rfl) hf
                          · refine lv_iload_n hx hb dX3_next0_272 rfl (lv_at hl 0 rfl) ?_
                            refine lv_bipush (v := 61) hx hb dX3_next0_273 (by decide) ?_
                            refine b_iceq (tgt := 284) hx hb hf dX3_next0_275 (by decide) (fun hf => ?_) (fun hf => ?_)
                            · refine lv_iconst (v := 1) hx hb dX3_next0_284 (by decide) ?_
                              refine lv_goto (tgt := 289) hx hb dX3_next0_285 (by decide) ?_
                              exact w_fM_next0_b289 C (sS x5 17 ((gS x5 17) + 1)) v6 1 _ _ _ hI (lv_sub hl [1, 0] rfl) hf
                            · refine lv_iload_n hx hb dX3_next0_278 rfl (lv_at hl 0 rfl) ?_
                              refine lv_bipush (v := 62) hx hb dX3_next0_279 (by decide) ?_
                              refine b_icne (tgt := 288) hx hb hf dX3_next0_281 (by decide) (fun hf => ?_) (fun hf => ?_)
                              · refine lv_iconst (v := 0) hx hb dX3_next0_288 (by decide) ?_
                                exact w_fM_next0_b289 C (sS x5 17 ((gS x5 17) + 1)) v6 0 _ _ _ hI (lv_sub hl [1, 0] rfl) hf
                              · refine lv_iconst (v := 1) hx hb dX3_next0_284 (by decide) ?_
                                refine lv_goto (tgt := 289) hx hb dX3_next0_285 (by decide) ?_
                                exact w_fM_next0_b289 C (sS x5 17 ((gS x5 17) + 1)) v6 1 _ _ _ hI (lv_sub hl [1, 0] rfl) hf
          · refine lv_aload_n hx hb dX3_next0_121 rfl (lv_at hl 1 rfl) ?_
            refine lv_iconst (v := 0) hx hb dX3_next0_122 (by decide) ?_
            refine mp20 C hI dX3_next0_123 (fun H locs hI => ?_)
            exact w_fM_next0_b126 C N (sS x5 20 0) _ _ _ hI (lv_sub hl [1] rfl) hf
        · exact w_fM_next0_b76 C N x5 _ _ _ hI (lv_sub hl [1] rfl) hf
      · refine lv_aload_n hx hb dX3_next0_61 rfl (lv_at hl 1 rfl) ?_
        refine lv_iconst (v := 0) hx hb dX3_next0_62 (by decide) ?_
        refine mp18 C hI dX3_next0_63 (fun H locs hI => ?_)
        refine lv_goto (tgt := 306) hx hb dX3_next0_66 (by decide) ?_
        exact m_vret C hI hf dX3_next0_306
    · refine lv_aload_n hx hb dX3_next0_26 rfl (lv_at hl 0 rfl) ?_
      refine lv_dup hx hb dX3_next0_27 rfl ?_
      refine mg17 C hI dX3_next0_28 ?_
      refine lv_iconst (v := 1) hx hb dX3_next0_31 (by decide) ?_
      refine lv_iadd hx hb dX3_next0_32 ?_
      refine mp17 C hI dX3_next0_33 (fun H locs hI => ?_)
      refine lv_goto (tgt := 0) hx hb dX3_next0_36 (by decide) ?_
      exact ih (sS x3 17 ((gS x3 17) + 1)) _ _ _ hI (lv_sub hl [0] rfl) hf
def fM_next0 (N : Nat) (x : MS) : Option MS :=
  fM_next0_b0 N N x
theorem mm_next0 (l : Launch) (N : Nat) {w : mO} {A : Nat → Prop} : ∀ (x : MS) (xr : MS), fM_next0 N x  = some xr → mMet l yX3_next0 (ws_ yX3_next0 cX3_next0 3 none) rmM_next0 [.ref (w.2.2.1 28)] w A x none xr := by
  intro x  xr hf
  refine m_start (cc := cX3_next0) (by decide +kernel) rfl (Nat.le_of_ble_eq_true rfl) rfl ?_
  intro p e s m args below meth c ls H locs C hI hl
  have hx := C.1.1
  have hb := C.1.2.1
  have hown := C.1.2.2.2.1
  have hts := C.1.2.2.2.2.1
  have hE := C.2.2
  rw [fM_next0] at hf
  exact w_fM_next0_b0 C N x _ _ _ hI (lv_sub hl [0] rfl) hf
/-! puts(III)I -/
abbrev rmM_puts : Room := { frames := 0, cells := 0, slots := 0, locals := 0 }
def fM_puts_b13 (N : Nat) : Nat → MS → Int32 → Int32 → Int32 → Option (Int32 × MS)
  | 0, _, _, _, _ => none
  | n + 1, x, l2, l3, l4 =>
  if (l3 * (gS x 15)) ≤ l4 then
    some (gS x 15, x)
  else
    (rd 80 (gA x 8) l4).bind fun v1 =>
    (wr x 0 1725 (l2 + l4) v1).bind fun x2 =>
    fM_puts_b13 N n x2 l2 l3 (l4 + 1)
theorem w_fM_puts_b13 {N : Nat} {r : Int32} {xr : MS} (C : mC w A p s m args meth c cX3_puts 5 (some .int)) : ∀ (n : Nat) (x : MS) (l2 : Int32) (l3 : Int32) (l4 : Int32) (H : Heap) (locs : List Loc) (ls : Array Slot), mI w A x s.heap H locs → lv_has ls 5 [(0, .ref (w.2.2.1 28)), (2, .int l2), (3, .int l3), (4, .int l4)] → fM_puts_b13 N n x l2 l3 l4 = some (r, xr) → W p l e rmM_puts s m args below meth c H locs 0 0 (MQ below (mQ w A (some (.int r)) xr) args s 0 0 A) (F0 m 13 ls []) := by
  have hx := C.1.1
  have hb := C.1.2.1
  have hown := C.1.2.2.2.1
  have hts := C.1.2.2.2.2.1
  have hE := C.2.2
  intro n
  induction n with
  | zero => intro x l2 l3 l4 H locs ls hI hl hf; rw [fM_puts_b13] at hf; cases hf
  | succ n ih =>
  intro x l2 l3 l4 H locs ls hI hl hf
  rw [fM_puts_b13] at hf
  refine lv_iload hx hb dX3_puts_13 (lv_at hl 3 rfl) ?_
  refine lv_iload_n hx hb dX3_puts_15 rfl (lv_at hl 2 rfl) ?_
  refine lv_aload_n hx hb dX3_puts_16 rfl (lv_at hl 0 rfl) ?_
  refine mg15 C hI dX3_puts_17 ?_
  refine lv_imul hx hb dX3_puts_20 ?_
  refine b_icge (tgt := 46) hx hb hf dX3_puts_21 (by decide) (fun hf => ?_) (fun hf => ?_)
  · refine lv_aload_n hx hb dX3_puts_46 rfl (lv_at hl 0 rfl) ?_
    refine mg15 C hI dX3_puts_47 ?_
    exact m_iret C hI hf dX3_puts_50
  · refine lv_aload_n hx hb dX3_puts_24 rfl (lv_at hl 0 rfl) ?_
    refine mg0 C hI dX3_puts_25 ?_
    refine lv_iload_n hx hb dX3_puts_28 rfl (lv_at hl 1 rfl) ?_
    refine lv_iload hx hb dX3_puts_29 (lv_at hl 3 rfl) ?_
    refine lv_iadd hx hb dX3_puts_31 ?_
    refine lv_aload_n hx hb dX3_puts_32 rfl (lv_at hl 0 rfl) ?_
    refine mg8 C hI dX3_puts_33 ?_
    refine lv_iload hx hb dX3_puts_36 (lv_at hl 3 rfl) ?_
    refine ma8 C hI hf dX3_puts_38 (fun v1 hf => ?_)
    refine ms0 C hI hf dX3_puts_39 (fun x2 H locs hI hf => ?_)
    refine lv_iinc (v := l4 + 1) (lv' := [(4, .int (l4 + 1)), (0, .ref (w.2.2.1 28)), (2, .int l2), (3, .int l3)]) hx hb dX3_puts_40 hl (k := 3) rfl rfl (by decide) rfl (fun ls hl => ?_)
    refine lv_goto (tgt := 13) hx hb dX3_puts_43 (by decide) ?_
    exact ih x2 l2 l3 (l4 + 1) _ _ _ hI (lv_sub hl [1, 2, 3, 0] rfl) hf
def fM_puts (N : Nat) (x : MS) (l1 : Int32) (l2 : Int32) (l3 : Int32) : Option (Int32 × MS) :=
  (wr x 0 1725 l1 (gS x 15)).bind fun x1 =>
  fM_puts_b13 N N x1 l2 l3 0
theorem mm_puts (l : Launch) (N : Nat) {w : mO} {A : Nat → Prop} : ∀ (x : MS) (l1 : Int32) (l2 : Int32) (l3 : Int32) (r : Int32) (xr : MS), fM_puts N x l1 l2 l3 = some (r, xr) → mMet l yX3_puts (ws_ yX3_puts cX3_puts 5 (some .int)) rmM_puts [.ref (w.2.2.1 28), .int l1, .int l2, .int l3] w A x (some (.int r)) xr := by
  intro x l1 l2 l3 r xr hf
  refine m_start (cc := cX3_puts) (by decide +kernel) rfl (Nat.le_of_ble_eq_true rfl) rfl ?_
  intro p e s m args below meth c ls H locs C hI hl
  have hx := C.1.1
  have hb := C.1.2.1
  have hown := C.1.2.2.2.1
  have hts := C.1.2.2.2.2.1
  have hE := C.2.2
  rw [fM_puts] at hf
  refine lv_aload_n hx hb dX3_puts_0 rfl (lv_at hl 0 rfl) ?_
  refine mg0 C hI dX3_puts_1 ?_
  refine lv_iload_n hx hb dX3_puts_4 rfl (lv_at hl 1 rfl) ?_
  refine lv_aload_n hx hb dX3_puts_5 rfl (lv_at hl 0 rfl) ?_
  refine mg15 C hI dX3_puts_6 ?_
  refine ms0 C hI hf dX3_puts_9 (fun x1 H locs hI hf => ?_)
  refine lv_iconst (v := 0) hx hb dX3_puts_10 (by decide) ?_
  refine lv_istore (lv' := [(4, .int 0), (0, .ref (w.2.2.1 28)), (1, .int l1), (2, .int l2), (3, .int l3)]) hx hb dX3_puts_11 hl (by decide) rfl (fun ls hl => ?_)
  exact w_fM_puts_b13 C N x1 l2 l3 0 _ _ _ hI (lv_sub hl [1, 3, 4, 0] rfl) hf
/-! putsLaw()I -/
abbrev rmM_putsLaw : Room := { frames := 0, cells := 0, slots := 0, locals := 0 }
def fM_putsLaw_b107 (N : Nat) : Nat → MS → Int32 → Option (Int32 × MS)
  | 0, _, _ => none
  | n + 1, x, l1 =>
  if (2 * (gS x 14)) ≤ l1 then
    some (gS x 13, x)
  else
    (rd 820 (gA x 7) l1).bind fun v1 =>
    (wr x 0 1725 (905 + l1) v1).bind fun x2 =>
    fM_putsLaw_b107 N n x2 (l1 + 1)
theorem w_fM_putsLaw_b107 {N : Nat} {r : Int32} {xr : MS} (C : mC w A p s m args meth c cX3_putsLaw 2 (some .int)) : ∀ (n : Nat) (x : MS) (l1 : Int32) (H : Heap) (locs : List Loc) (ls : Array Slot), mI w A x s.heap H locs → lv_has ls 2 [(0, .ref (w.2.2.1 28)), (1, .int l1)] → fM_putsLaw_b107 N n x l1 = some (r, xr) → W p l e rmM_putsLaw s m args below meth c H locs 0 0 (MQ below (mQ w A (some (.int r)) xr) args s 0 0 A) (F0 m 107 ls []) := by
  have hx := C.1.1
  have hb := C.1.2.1
  have hown := C.1.2.2.2.1
  have hts := C.1.2.2.2.2.1
  have hE := C.2.2
  intro n
  induction n with
  | zero => intro x l1 H locs ls hI hl hf; rw [fM_putsLaw_b107] at hf; cases hf
  | succ n ih =>
  intro x l1 H locs ls hI hl hf
  rw [fM_putsLaw_b107] at hf
  refine lv_iload_n hx hb dX3_putsLaw_107 rfl (lv_at hl 1 rfl) ?_
  refine lv_iconst (v := 2) hx hb dX3_putsLaw_108 (by decide) ?_
  refine lv_aload_n hx hb dX3_putsLaw_109 rfl (lv_at hl 0 rfl) ?_
  refine mg14 C hI dX3_putsLaw_110 ?_
  refine lv_imul hx hb dX3_putsLaw_113 ?_
  refine b_icge (tgt := 139) hx hb hf dX3_putsLaw_114 (by decide) (fun hf => ?_) (fun hf => ?_)
  · refine lv_aload_n hx hb dX3_putsLaw_139 rfl (lv_at hl 0 rfl) ?_
    refine mg13 C hI dX3_putsLaw_140 ?_
    exact m_iret C hI hf dX3_putsLaw_143
  · refine lv_aload_n hx hb dX3_putsLaw_117 rfl (lv_at hl 0 rfl) ?_
    refine mg0 C hI dX3_putsLaw_118 ?_
    refine lv_sipush (v := 905) hx hb dX3_putsLaw_121 (by decide) ?_
    refine lv_iload_n hx hb dX3_putsLaw_124 rfl (lv_at hl 1 rfl) ?_
    refine lv_iadd hx hb dX3_putsLaw_125 ?_
    refine lv_aload_n hx hb dX3_putsLaw_126 rfl (lv_at hl 0 rfl) ?_
    refine mg7 C hI dX3_putsLaw_127 ?_
    refine lv_iload_n hx hb dX3_putsLaw_130 rfl (lv_at hl 1 rfl) ?_
    refine ma7 C hI hf dX3_putsLaw_131 (fun v1 hf => ?_)
    refine ms0 C hI hf dX3_putsLaw_132 (fun x2 H locs hI hf => ?_)
    refine lv_iinc (v := l1 + 1) (lv' := [(1, .int (l1 + 1)), (0, .ref (w.2.2.1 28))]) hx hb dX3_putsLaw_133 hl (k := 1) rfl rfl (by decide) rfl (fun ls hl => ?_)
    refine lv_goto (tgt := 107) hx hb dX3_putsLaw_136 (by decide) ?_
    exact ih x2 (l1 + 1) _ _ _ hI (lv_sub hl [1, 0] rfl) hf
def fM_putsLaw_b13 (N : Nat) : Nat → MS → Int32 → Option (Int32 × MS)
  | 0, _, _ => none
  | n + 1, x, l1 =>
  if (gS x 13) ≤ l1 then
    fM_putsLaw_b107 N N x 0
  else
    (rd 64 (gA x 6) (4 * l1)).bind fun v1 =>
    (wr x 0 1725 (841 + l1) v1).bind fun x2 =>
    (rd 64 (gA x2 6) ((4 * l1) + 1)).bind fun v3 =>
    (wr x2 0 1725 (857 + l1) v3).bind fun x4 =>
    (rd 64 (gA x4 6) ((4 * l1) + 2)).bind fun v5 =>
    (wr x4 0 1725 (873 + l1) v5).bind fun x6 =>
    (rd 64 (gA x6 6) ((4 * l1) + 3)).bind fun v7 =>
    (wr x6 0 1725 (889 + l1) v7).bind fun x8 =>
    fM_putsLaw_b13 N n x8 (l1 + 1)
theorem w_fM_putsLaw_b13 {N : Nat} {r : Int32} {xr : MS} (C : mC w A p s m args meth c cX3_putsLaw 2 (some .int)) : ∀ (n : Nat) (x : MS) (l1 : Int32) (H : Heap) (locs : List Loc) (ls : Array Slot), mI w A x s.heap H locs → lv_has ls 2 [(0, .ref (w.2.2.1 28)), (1, .int l1)] → fM_putsLaw_b13 N n x l1 = some (r, xr) → W p l e rmM_putsLaw s m args below meth c H locs 0 0 (MQ below (mQ w A (some (.int r)) xr) args s 0 0 A) (F0 m 13 ls []) := by
  have hx := C.1.1
  have hb := C.1.2.1
  have hown := C.1.2.2.2.1
  have hts := C.1.2.2.2.2.1
  have hE := C.2.2
  intro n
  induction n with
  | zero => intro x l1 H locs ls hI hl hf; rw [fM_putsLaw_b13] at hf; cases hf
  | succ n ih =>
  intro x l1 H locs ls hI hl hf
  rw [fM_putsLaw_b13] at hf
  refine lv_iload_n hx hb dX3_putsLaw_13 rfl (lv_at hl 1 rfl) ?_
  refine lv_aload_n hx hb dX3_putsLaw_14 rfl (lv_at hl 0 rfl) ?_
  refine mg13 C hI dX3_putsLaw_15 ?_
  refine b_icge (tgt := 105) hx hb hf dX3_putsLaw_18 (by decide) (fun hf => ?_) (fun hf => ?_)
  · refine lv_iconst (v := 0) hx hb dX3_putsLaw_105 (by decide) ?_
    refine lv_istore_n (lv' := [(1, .int 0), (0, .ref (w.2.2.1 28))]) hx hb dX3_putsLaw_106 rfl hl (by decide) rfl (fun ls hl => ?_)
    exact w_fM_putsLaw_b107 C N x 0 _ _ _ hI (lv_sub hl [1, 0] rfl) hf
  · refine lv_aload_n hx hb dX3_putsLaw_21 rfl (lv_at hl 0 rfl) ?_
    refine mg0 C hI dX3_putsLaw_22 ?_
    refine lv_sipush (v := 841) hx hb dX3_putsLaw_25 (by decide) ?_
    refine lv_iload_n hx hb dX3_putsLaw_28 rfl (lv_at hl 1 rfl) ?_
    refine lv_iadd hx hb dX3_putsLaw_29 ?_
    refine lv_aload_n hx hb dX3_putsLaw_30 rfl (lv_at hl 0 rfl) ?_
    refine mg6 C hI dX3_putsLaw_31 ?_
    refine lv_iconst (v := 4) hx hb dX3_putsLaw_34 (by decide) ?_
    refine lv_iload_n hx hb dX3_putsLaw_35 rfl (lv_at hl 1 rfl) ?_
    refine lv_imul hx hb dX3_putsLaw_36 ?_
    refine ma6 C hI hf dX3_putsLaw_37 (fun v1 hf => ?_)
    refine ms0 C hI hf dX3_putsLaw_38 (fun x2 H locs hI hf => ?_)
    refine lv_aload_n hx hb dX3_putsLaw_39 rfl (lv_at hl 0 rfl) ?_
    refine mg0 C hI dX3_putsLaw_40 ?_
    refine lv_sipush (v := 857) hx hb dX3_putsLaw_43 (by decide) ?_
    refine lv_iload_n hx hb dX3_putsLaw_46 rfl (lv_at hl 1 rfl) ?_
    refine lv_iadd hx hb dX3_putsLaw_47 ?_
    refine lv_aload_n hx hb dX3_putsLaw_48 rfl (lv_at hl 0 rfl) ?_
    refine mg6 C hI dX3_putsLaw_49 ?_
    refine lv_iconst (v := 4) hx hb dX3_putsLaw_52 (by decide) ?_
    refine lv_iload_n hx hb dX3_putsLaw_53 rfl (lv_at hl 1 rfl) ?_
    refine lv_imul hx hb dX3_putsLaw_54 ?_
    refine lv_iconst (v := 1) hx hb dX3_putsLaw_55 (by decide) ?_
    refine lv_iadd hx hb dX3_putsLaw_56 ?_
    refine ma6 C hI hf dX3_putsLaw_57 (fun v3 hf => ?_)
    refine ms0 C hI hf dX3_putsLaw_58 (fun x4 H locs hI hf => ?_)
    refine lv_aload_n hx hb dX3_putsLaw_59 rfl (lv_at hl 0 rfl) ?_
    refine mg0 C hI dX3_putsLaw_60 ?_
    refine lv_sipush (v := 873) hx hb dX3_putsLaw_63 (by decide) ?_
    refine lv_iload_n hx hb dX3_putsLaw_66 rfl (lv_at hl 1 rfl) ?_
    refine lv_iadd hx hb dX3_putsLaw_67 ?_
    refine lv_aload_n hx hb dX3_putsLaw_68 rfl (lv_at hl 0 rfl) ?_
    refine mg6 C hI dX3_putsLaw_69 ?_
    refine lv_iconst (v := 4) hx hb dX3_putsLaw_72 (by decide) ?_
    refine lv_iload_n hx hb dX3_putsLaw_73 rfl (lv_at hl 1 rfl) ?_
    refine lv_imul hx hb dX3_putsLaw_74 ?_
    refine lv_iconst (v := 2) hx hb dX3_putsLaw_75 (by decide) ?_
    refine lv_iadd hx hb dX3_putsLaw_76 ?_
    refine ma6 C hI hf dX3_putsLaw_77 (fun v5 hf => ?_)
    refine ms0 C hI hf dX3_putsLaw_78 (fun x6 H locs hI hf => ?_)
    refine lv_aload_n hx hb dX3_putsLaw_79 rfl (lv_at hl 0 rfl) ?_
    refine mg0 C hI dX3_putsLaw_80 ?_
    refine lv_sipush (v := 889) hx hb dX3_putsLaw_83 (by decide) ?_
    refine lv_iload_n hx hb dX3_putsLaw_86 rfl (lv_at hl 1 rfl) ?_
    refine lv_iadd hx hb dX3_putsLaw_87 ?_
    refine lv_aload_n hx hb dX3_putsLaw_88 rfl (lv_at hl 0 rfl) ?_
    refine mg6 C hI dX3_putsLaw_89 ?_
    refine lv_iconst (v := 4) hx hb dX3_putsLaw_92 (by decide) ?_
    refine lv_iload_n hx hb dX3_putsLaw_93 rfl (lv_at hl 1 rfl) ?_
    refine lv_imul hx hb dX3_putsLaw_94 ?_
    refine lv_iconst (v := 3) hx hb dX3_putsLaw_95 (by decide) ?_
    refine lv_iadd hx hb dX3_putsLaw_96 ?_
    refine ma6 C hI hf dX3_putsLaw_97 (fun v7 hf => ?_)
    refine ms0 C hI hf dX3_putsLaw_98 (fun x8 H locs hI hf => ?_)
    refine lv_iinc (v := l1 + 1) (lv' := [(1, .int (l1 + 1)), (0, .ref (w.2.2.1 28))]) hx hb dX3_putsLaw_99 hl (k := 1) rfl rfl (by decide) rfl (fun ls hl => ?_)
    refine lv_goto (tgt := 13) hx hb dX3_putsLaw_102 (by decide) ?_
    exact ih x8 (l1 + 1) _ _ _ hI (lv_sub hl [1, 0] rfl) hf
def fM_putsLaw (N : Nat) (x : MS) : Option (Int32 × MS) :=
  (wr x 0 1725 89 (gS x 13)).bind fun x1 =>
  fM_putsLaw_b13 N N x1 0
theorem mm_putsLaw (l : Launch) (N : Nat) {w : mO} {A : Nat → Prop} : ∀ (x : MS) (r : Int32) (xr : MS), fM_putsLaw N x  = some (r, xr) → mMet l yX3_putsLaw (ws_ yX3_putsLaw cX3_putsLaw 2 (some .int)) rmM_putsLaw [.ref (w.2.2.1 28)] w A x (some (.int r)) xr := by
  intro x  r xr hf
  refine m_start (cc := cX3_putsLaw) (by decide +kernel) rfl (Nat.le_of_ble_eq_true rfl) rfl ?_
  intro p e s m args below meth c ls H locs C hI hl
  have hx := C.1.1
  have hb := C.1.2.1
  have hown := C.1.2.2.2.1
  have hts := C.1.2.2.2.2.1
  have hE := C.2.2
  rw [fM_putsLaw] at hf
  refine lv_aload_n hx hb dX3_putsLaw_0 rfl (lv_at hl 0 rfl) ?_
  refine mg0 C hI dX3_putsLaw_1 ?_
  refine lv_bipush (v := 89) hx hb dX3_putsLaw_4 (by decide) ?_
  refine lv_aload_n hx hb dX3_putsLaw_6 rfl (lv_at hl 0 rfl) ?_
  refine mg13 C hI dX3_putsLaw_7 ?_
  refine ms0 C hI hf dX3_putsLaw_10 (fun x1 H locs hI hf => ?_)
  refine lv_iconst (v := 0) hx hb dX3_putsLaw_11 (by decide) ?_
  refine lv_istore_n (lv' := [(1, .int 0), (0, .ref (w.2.2.1 28))]) hx hb dX3_putsLaw_12 rfl hl (by decide) rfl (fun ls hl => ?_)
  exact w_fM_putsLaw_b13 C N x1 0 _ _ _ hI (lv_sub hl [1, 0] rfl) hf
