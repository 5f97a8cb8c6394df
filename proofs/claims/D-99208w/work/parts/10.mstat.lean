set_option maxRecDepth 100000
variable {p : Program} {l : Launch} {e : Env} {R : Room} {s : State} {m : MethodId} {args : Array Value} {below : List Frame} {meth : Method} {c : Code} {H : Heap} {locs : List Loc} {Q : State → Prop}
/-! isIn(III)Z -/
abbrev rmM_isIn : Room := { frames := 0, cells := 0, slots := 0, locals := 0 }
def fM_isIn (N : Nat) (l0 : Int32) (l1 : Int32) (l2 : Int32) : Option Int32 :=
  if l0 < l1 then
    some 0
  else
    if l2 < l0 then
      some 0
    else
      some 1
theorem smM_isIn (l : Launch) (N : Nat) : ∀ (l0 : Int32) (l1 : Int32) (l2 : Int32) (r : Int32), fM_isIn N l0 l1 l2 = some r → sMet l yX3_isIn (ws_ yX3_isIn cX3_isIn 3 (some .boolean)) rmM_isIn [.int l0, .int l1, .int l2] (some (.int r)) := by
  intro l0 l1 l2 r hf
  refine s_start (cc := cX3_isIn) (own := RX3) (by decide +kernel) rfl (Nat.le_of_ble_eq_true rfl) rfl ?_
  intro p e s m args below meth c ls C hl
  have hx := C.1
  have hb := C.2.1
  have hown := C.2.2.2.1
  have hts := C.2.2.2.2.1
  rw [fM_isIn] at hf
  refine lv_iload_n hx hb dX3_isIn_0 rfl (lv_at hl 0 rfl) ?_
  refine lv_iload_n hx hb dX3_isIn_1 rfl (lv_at hl 1 rfl) ?_
  refine b_iclt (tgt := 14) hx hb hf dX3_isIn_2 (by decide) (fun hf => ?_) (fun hf => ?_)
  · refine lv_iconst (v := 0) hx hb dX3_isIn_14 (by decide) ?_
    exact s_zretc C zb_0 hf dX3_isIn_15
  · refine lv_iload_n hx hb dX3_isIn_5 rfl (lv_at hl 0 rfl) ?_
    refine lv_iload_n hx hb dX3_isIn_6 rfl (lv_at hl 2 rfl) ?_
    refine b_icgt (tgt := 14) hx hb hf dX3_isIn_7 (by decide) (fun hf => ?_) (fun hf => ?_)
    · refine lv_iconst (v := 0) hx hb dX3_isIn_14 (by decide) ?_
      exact s_zretc C zb_0 hf dX3_isIn_15
    · refine lv_iconst (v := 1) hx hb dX3_isIn_10 (by decide) ?_
      refine lv_goto (tgt := 15) hx hb dX3_isIn_11 (by decide) ?_
      exact s_zretc C zb_1 hf dX3_isIn_15
/-! canBe(II)Z -/
abbrev rmM_canBe : Room := { frames := 1, cells := 0, slots := 0, locals := 22 }
def fM_canBe (N : Nat) (l0 : Int32) (l1 : Int32) : Option Int32 :=
  if l0 = 0 then
    (fM_isIn N l1 1 999).bind fun v2 =>
    some (zb v2)
  else if l0 = 1 then
    (fM_isIn N l1 (-9999) 9999).bind fun v4 =>
    some (zb v4)
  else if l0 = 2 then
    (fM_isIn N l1 (-999) 999).bind fun v6 =>
    some (zb v6)
  else if l0 = 3 then
    (fM_isIn N l1 0 9).bind fun v8 =>
    some (zb v8)
  else if l0 = 4 then
    (fM_isIn N l1 0 1).bind fun v10 =>
    some (zb v10)
  else 
    some 0
theorem smM_canBe (l : Launch) (N : Nat) : ∀ (l0 : Int32) (l1 : Int32) (r : Int32), fM_canBe N l0 l1 = some r → sMet l yX3_canBe (ws_ yX3_canBe cX3_canBe 2 (some .boolean)) rmM_canBe [.int l0, .int l1] (some (.int r)) := by
  intro l0 l1 r hf
  refine s_start (cc := cX3_canBe) (own := RX3) (by decide +kernel) rfl (Nat.le_of_ble_eq_true rfl) rfl ?_
  intro p e s m args below meth c ls C hl
  have hx := C.1
  have hb := C.2.1
  have hown := C.2.2.2.1
  have hts := C.2.2.2.2.1
  rw [fM_canBe] at hf
  refine lv_iload_n hx hb dX3_canBe_0 rfl (lv_at hl 0 rfl) ?_
  refine b_tIn (k := 0) (j := 0) (tgt := 36) hx hb hf dX3_canBe_1 (by decide +kernel) rfl (by decide) (fun hf => ?_) (fun h1 hf => ?_)
  · refine lv_iload_n hx hb dX3_canBe_36 rfl (lv_at hl 1 rfl) ?_
    refine lv_iconst (v := 1) hx hb dX3_canBe_37 (by decide) ?_
    refine lv_sipush (v := 999) hx hb dX3_canBe_38 (by decide) ?_
    refine g_calliS (rest := []) C hf (smM_isIn l N _ _ _) cqM_M_isIn ⟨rfl, rfl⟩ ⟨Nat.le_of_ble_eq_true rfl, Nat.le_of_ble_eq_true rfl⟩ rfl hl.1 rfl (Nat.le_of_ble_eq_true rfl) ⟨Nat.zero_le _, Nat.zero_le _⟩ dX3_canBe_41 (fun v2 hf => ?_)
    exact s_zret C hf dX3_canBe_44
  refine b_tIn (k := 1) (j := 1) (tgt := 45) hx hb hf dX3_canBe_1 (by decide +kernel) rfl (by decide) (fun hf => ?_) (fun h3 hf => ?_)
  · refine lv_iload_n hx hb dX3_canBe_45 rfl (lv_at hl 1 rfl) ?_
    refine lv_sipush (v := (-9999)) hx hb dX3_canBe_46 (by decide) ?_
    refine lv_sipush (v := 9999) hx hb dX3_canBe_49 (by decide) ?_
    refine g_calliS (rest := []) C hf (smM_isIn l N _ _ _) cqM_M_isIn ⟨rfl, rfl⟩ ⟨Nat.le_of_ble_eq_true rfl, Nat.le_of_ble_eq_true rfl⟩ rfl hl.1 rfl (Nat.le_of_ble_eq_true rfl) ⟨Nat.zero_le _, Nat.zero_le _⟩ dX3_canBe_52 (fun v4 hf => ?_)
    exact s_zret C hf dX3_canBe_55
  refine b_tIn (k := 2) (j := 2) (tgt := 56) hx hb hf dX3_canBe_1 (by decide +kernel) rfl (by decide) (fun hf => ?_) (fun h5 hf => ?_)
  · refine lv_iload_n hx hb dX3_canBe_56 rfl (lv_at hl 1 rfl) ?_
    refine lv_sipush (v := (-999)) hx hb dX3_canBe_57 (by decide) ?_
    refine lv_sipush (v := 999) hx hb dX3_canBe_60 (by decide) ?_
    refine g_calliS (rest := []) C hf (smM_isIn l N _ _ _) cqM_M_isIn ⟨rfl, rfl⟩ ⟨Nat.le_of_ble_eq_true rfl, Nat.le_of_ble_eq_true rfl⟩ rfl hl.1 rfl (Nat.le_of_ble_eq_true rfl) ⟨Nat.zero_le _, Nat.zero_le _⟩ dX3_canBe_63 (fun v6 hf => ?_)
    exact s_zret C hf dX3_canBe_66
  refine b_tIn (k := 3) (j := 3) (tgt := 67) hx hb hf dX3_canBe_1 (by decide +kernel) rfl (by decide) (fun hf => ?_) (fun h7 hf => ?_)
  · refine lv_iload_n hx hb dX3_canBe_67 rfl (lv_at hl 1 rfl) ?_
    refine lv_iconst (v := 0) hx hb dX3_canBe_68 (by decide) ?_
    refine lv_bipush (v := 9) hx hb dX3_canBe_69 (by decide) ?_
    refine g_calliS (rest := []) C hf (smM_isIn l N _ _ _) cqM_M_isIn ⟨rfl, rfl⟩ ⟨Nat.le_of_ble_eq_true rfl, Nat.le_of_ble_eq_true rfl⟩ rfl hl.1 rfl (Nat.le_of_ble_eq_true rfl) ⟨Nat.zero_le _, Nat.zero_le _⟩ dX3_canBe_71 (fun v8 hf => ?_)
    exact s_zret C hf dX3_canBe_74
  refine b_tIn (k := 4) (j := 4) (tgt := 75) hx hb hf dX3_canBe_1 (by decide +kernel) rfl (by decide) (fun hf => ?_) (fun h9 hf => ?_)
  · refine lv_iload_n hx hb dX3_canBe_75 rfl (lv_at hl 1 rfl) ?_
    refine lv_iconst (v := 0) hx hb dX3_canBe_76 (by decide) ?_
    refine lv_iconst (v := 1) hx hb dX3_canBe_77 (by decide) ?_
    refine g_calliS (rest := []) C hf (smM_isIn l N _ _ _) cqM_M_isIn ⟨rfl, rfl⟩ ⟨Nat.le_of_ble_eq_true rfl, Nat.le_of_ble_eq_true rfl⟩ rfl hl.1 rfl (Nat.le_of_ble_eq_true rfl) ⟨Nat.zero_le _, Nat.zero_le _⟩ dX3_canBe_78 (fun v10 hf => ?_)
    exact s_zret C hf dX3_canBe_81
  have h1 : l0.toInt ≠ 0 := sw_ne h1
  have h3 : l0.toInt ≠ 1 := sw_ne h3
  have h5 : l0.toInt ≠ 2 := sw_ne h5
  have h7 : l0.toInt ≠ 3 := sw_ne h7
  have h9 : l0.toInt ≠ 4 := sw_ne h9
  refine lv_tableOut (tgt := 82) hx hb dX3_canBe_1 (by omega) (by decide) ?_
  refine lv_iconst (v := 0) hx hb dX3_canBe_82 (by decide) ?_
  exact s_zretc C zb_0 hf dX3_canBe_83
/-! isDigit(I)Z -/
abbrev rmM_isDigit : Room := { frames := 1, cells := 0, slots := 0, locals := 22 }
def fM_isDigit (N : Nat) (l0 : Int32) : Option Int32 :=
  (fM_isIn N l0 48 57).bind fun v1 =>
  some (zb v1)
theorem smM_isDigit (l : Launch) (N : Nat) : ∀ (l0 : Int32) (r : Int32), fM_isDigit N l0 = some r → sMet l yX3_isDigit (ws_ yX3_isDigit cX3_isDigit 1 (some .boolean)) rmM_isDigit [.int l0] (some (.int r)) := by
  intro l0 r hf
  refine s_start (cc := cX3_isDigit) (own := RX3) (by decide +kernel) rfl (Nat.le_of_ble_eq_true rfl) rfl ?_
  intro p e s m args below meth c ls C hl
  have hx := C.1
  have hb := C.2.1
  have hown := C.2.2.2.1
  have hts := C.2.2.2.2.1
  rw [fM_isDigit] at hf
  refine lv_iload_n hx hb dX3_isDigit_0 rfl (lv_at hl 0 rfl) ?_
  refine lv_bipush (v := 48) hx hb dX3_isDigit_1 (by decide) ?_
  refine lv_bipush (v := 57) hx hb dX3_isDigit_3 (by decide) ?_
  refine g_calliS (rest := []) C hf (smM_isIn l N _ _ _) cqM_M_isIn ⟨rfl, rfl⟩ ⟨Nat.le_of_ble_eq_true rfl, Nat.le_of_ble_eq_true rfl⟩ rfl hl.1 rfl (Nat.le_of_ble_eq_true rfl) ⟨Nat.zero_le _, Nat.zero_le _⟩ dX3_isDigit_5 (fun v1 hf => ?_)
  exact s_zret C hf dX3_isDigit_8
/-! isLetter(I)Z -/
abbrev rmM_isLetter : Room := { frames := 1, cells := 0, slots := 0, locals := 22 }
def fM_isLetter (N : Nat) (l0 : Int32) : Option Int32 :=
  (fM_isIn N l0 97 122).bind fun v1 =>
  if v1 = 0 then
    (fM_isIn N l0 65 90).bind fun v2 =>
    if v2 = 0 then
      some 0
    else
      some 1
  else
    some 1
theorem smM_isLetter (l : Launch) (N : Nat) : ∀ (l0 : Int32) (r : Int32), fM_isLetter N l0 = some r → sMet l yX3_isLetter (ws_ yX3_isLetter cX3_isLetter 1 (some .boolean)) rmM_isLetter [.int l0] (some (.int r)) := by
  intro l0 r hf
  refine s_start (cc := cX3_isLetter) (own := RX3) (by decide +kernel) rfl (Nat.le_of_ble_eq_true rfl) rfl ?_
  intro p e s m args below meth c ls C hl
  have hx := C.1
  have hb := C.2.1
  have hown := C.2.2.2.1
  have hts := C.2.2.2.2.1
  rw [fM_isLetter] at hf
  refine lv_iload_n hx hb dX3_isLetter_0 rfl (lv_at hl 0 rfl) ?_
  refine lv_bipush (v := 97) hx hb dX3_isLetter_1 (by decide) ?_
  refine lv_bipush (v := 122) hx hb dX3_isLetter_3 (by decide) ?_
  refine g_calliS (rest := []) C hf (smM_isIn l N _ _ _) cqM_M_isIn ⟨rfl, rfl⟩ ⟨Nat.le_of_ble_eq_true rfl, Nat.le_of_ble_eq_true rfl⟩ rfl hl.1 rfl (Nat.le_of_ble_eq_true rfl) ⟨Nat.zero_le _, Nat.zero_le _⟩ dX3_isLetter_5 (fun v1 hf => ?_)
  refine b_ifne (tgt := 22) hx hb hf dX3_isLetter_8 (by decide) (fun hf => ?_) (fun hf => ?_)
  · refine lv_iconst (v := 1) hx hb dX3_isLetter_22 (by decide) ?_
    refine lv_goto (tgt := 27) hx hb dX3_isLetter_23 (by decide) ?_
    exact s_zretc C zb_1 hf dX3_isLetter_27
  · refine lv_iload_n hx hb dX3_isLetter_11 rfl (lv_at hl 0 rfl) ?_
    refine lv_bipush (v := 65) hx hb dX3_isLetter_12 (by decide) ?_
    refine lv_bipush (v := 90) hx hb dX3_isLetter_14 (by decide) ?_
    refine g_calliS (rest := []) C hf (smM_isIn l N _ _ _) cqM_M_isIn ⟨rfl, rfl⟩ ⟨Nat.le_of_ble_eq_true rfl, Nat.le_of_ble_eq_true rfl⟩ rfl hl.1 rfl (Nat.le_of_ble_eq_true rfl) ⟨Nat.zero_le _, Nat.zero_le _⟩ dX3_isLetter_16 (fun v2 hf => ?_)
    refine b_ifeq (tgt := 26) hx hb hf dX3_isLetter_19 (by decide) (fun hf => ?_) (fun hf => ?_)
    · refine lv_iconst (v := 0) hx hb dX3_isLetter_26 (by decide) ?_
      exact s_zretc C zb_0 hf dX3_isLetter_27
    · refine lv_iconst (v := 1) hx hb dX3_isLetter_22 (by decide) ?_
      refine lv_goto (tgt := 27) hx hb dX3_isLetter_23 (by decide) ?_
      exact s_zretc C zb_1 hf dX3_isLetter_27
/-! both(III)I -/
abbrev rmM_both : Room := { frames := 0, cells := 0, slots := 0, locals := 0 }
def fM_both (N : Nat) (l0 : Int32) (l1 : Int32) (l2 : Int32) : Option Int32 :=
  if l0 = 23 then
    some (l1 + l2)
  else if l0 = 24 then
    some (l1 - l2)
  else if l0 = 25 then
    some (l1 * l2)
  else if l0 = 26 then
    some (l1 ||| l2)
  else if l0 = 27 then
    lt (if l2 ≤ l1 then 0 else 1 : Int32) fun v6 =>
    some v6
  else if l0 = 28 then
    lt (if l1 = l2 then 1 else 0 : Int32) fun v8 =>
    some v8
  else if l0 = 29 then
    lt (if l1 ≤ l2 then 0 else 1 : Int32) fun v10 =>
    some v10
  else if l0 = 30 then
    some (l1 ||| l2)
  else if l0 = 31 then
    some (l1 &&& l2)
  else 
    some (l1 ||| l2)
theorem smM_both (l : Launch) (N : Nat) : ∀ (l0 : Int32) (l1 : Int32) (l2 : Int32) (r : Int32), fM_both N l0 l1 l2 = some r → sMet l yX3_both (ws_ yX3_both cX3_both 3 (some .int)) rmM_both [.int l0, .int l1, .int l2] (some (.int r)) := by
  intro l0 l1 l2 r hf
  refine s_start (cc := cX3_both) (own := RX3) (by decide +kernel) rfl (Nat.le_of_ble_eq_true rfl) rfl ?_
  intro p e s m args below meth c ls C hl
  have hx := C.1
  have hb := C.2.1
  have hown := C.2.2.2.1
  have hts := C.2.2.2.2.1
  rw [fM_both] at hf
  refine lv_iload_n hx hb dX3_both_0 rfl (lv_at hl 0 rfl) ?_
  refine b_tIn (k := 23) (j := 0) (tgt := 52) hx hb hf dX3_both_1 (by decide +kernel) rfl (by decide) (fun hf => ?_) (fun h1 hf => ?_)
  · refine lv_iload_n hx hb dX3_both_52 rfl (lv_at hl 1 rfl) ?_
    refine lv_iload_n hx hb dX3_both_53 rfl (lv_at hl 2 rfl) ?_
    refine lv_iadd hx hb dX3_both_54 ?_
    exact s_iret C hf dX3_both_55
  refine b_tIn (k := 24) (j := 1) (tgt := 56) hx hb hf dX3_both_1 (by decide +kernel) rfl (by decide) (fun hf => ?_) (fun h2 hf => ?_)
  · refine lv_iload_n hx hb dX3_both_56 rfl (lv_at hl 1 rfl) ?_
    refine lv_iload_n hx hb dX3_both_57 rfl (lv_at hl 2 rfl) ?_
    refine lv_isub hx hb dX3_both_58 ?_
    exact s_iret C hf dX3_both_59
  refine b_tIn (k := 25) (j := 2) (tgt := 60) hx hb hf dX3_both_1 (by decide +kernel) rfl (by decide) (fun hf => ?_) (fun h3 hf => ?_)
  · refine lv_iload_n hx hb dX3_both_60 rfl (lv_at hl 1 rfl) ?_
    refine lv_iload_n hx hb dX3_both_61 rfl (lv_at hl 2 rfl) ?_
    refine lv_imul hx hb dX3_both_62 ?_
    exact s_iret C hf dX3_both_63
  refine b_tIn (k := 26) (j := 3) (tgt := 101) hx hb hf dX3_both_1 (by decide +kernel) rfl (by decide) (fun hf => ?_) (fun h4 hf => ?_)
  · refine lv_iload_n hx hb dX3_both_101 rfl (lv_at hl 1 rfl) ?_
    refine lv_iload_n hx hb dX3_both_102 rfl (lv_at hl 2 rfl) ?_
    refine lv_ior hx hb dX3_both_103 ?_
    exact s_iret C hf dX3_both_104
  refine b_tIn (k := 27) (j := 4) (tgt := 64) hx hb hf dX3_both_1 (by decide +kernel) rfl (by decide) (fun hf => ?_) (fun h5 hf => ?_)
  · refine lv_iload_n hx hb dX3_both_64 rfl (lv_at hl 1 rfl) ?_
    refine lv_iload_n hx hb dX3_both_65 rfl (lv_at hl 2 rfl) ?_
    suffices hJ : ∀ v6 : Int32, (v6 = (if l2 ≤ l1 then 0 else 1 : Int32)) → W p l e rmM_both s m args below meth c s.heap [] 0 0 (MQ below (sQ (some (.int r))) args s 0 0 (fun _ => False)) (F0 m 74 ls [.int v6]) by
      refine lv_icmp_ge (tgt := 73) hx hb dX3_both_66 (by decide) (fun hc => ?_) (fun hc => ?_)
      · refine lv_iconst (v := 0) hx hb dX3_both_73 (by decide) ?_
        exact hJ _ (if_pos hc).symm
      · refine lv_iconst (v := 1) hx hb dX3_both_69 (by decide) ?_
        refine lv_goto (tgt := 74) hx hb dX3_both_70 (by decide) ?_
        exact hJ _ (if_neg hc).symm
    intro v6 hv
    have hf := lt_of hv hf
    exact s_iret C hf dX3_both_74
  refine b_tIn (k := 28) (j := 5) (tgt := 75) hx hb hf dX3_both_1 (by decide +kernel) rfl (by decide) (fun hf => ?_) (fun h7 hf => ?_)
  · refine lv_iload_n hx hb dX3_both_75 rfl (lv_at hl 1 rfl) ?_
    refine lv_iload_n hx hb dX3_both_76 rfl (lv_at hl 2 rfl) ?_
    suffices hJ : ∀ v8 : Int32, (v8 = (if l1 = l2 then 1 else 0 : Int32)) → W p l e rmM_both s m args below meth c s.heap [] 0 0 (MQ below (sQ (some (.int r))) args s 0 0 (fun _ => False)) (F0 m 85 ls [.int v8]) by
      refine lv_icmp_ne (tgt := 84) hx hb dX3_both_77 (by decide) (fun hc => ?_) (fun hc => ?_)
      · refine lv_iconst (v := 0) hx hb dX3_both_84 (by decide) ?_
        exact hJ _ (if_neg hc).symm
      · refine lv_iconst (v := 1) hx hb dX3_both_80 (by decide) ?_
        refine lv_goto (tgt := 85) hx hb dX3_both_81 (by decide) ?_
        exact hJ _ (if_pos hc).symm
    intro v8 hv
    have hf := lt_of hv hf
    exact s_iret C hf dX3_both_85
  refine b_tIn (k := 29) (j := 6) (tgt := 86) hx hb hf dX3_both_1 (by decide +kernel) rfl (by decide) (fun hf => ?_) (fun h9 hf => ?_)
  · refine lv_iload_n hx hb dX3_both_86 rfl (lv_at hl 1 rfl) ?_
    refine lv_iload_n hx hb dX3_both_87 rfl (lv_at hl 2 rfl) ?_
    suffices hJ : ∀ v10 : Int32, (v10 = (if l1 ≤ l2 then 0 else 1 : Int32)) → W p l e rmM_both s m args below meth c s.heap [] 0 0 (MQ below (sQ (some (.int r))) args s 0 0 (fun _ => False)) (F0 m 96 ls [.int v10]) by
      refine lv_icmp_le (tgt := 95) hx hb dX3_both_88 (by decide) (fun hc => ?_) (fun hc => ?_)
      · refine lv_iconst (v := 0) hx hb dX3_both_95 (by decide) ?_
        exact hJ _ (if_pos hc).symm
      · refine lv_iconst (v := 1) hx hb dX3_both_91 (by decide) ?_
        refine lv_goto (tgt := 96) hx hb dX3_both_92 (by decide) ?_
        exact hJ _ (if_neg hc).symm
    intro v10 hv
    have hf := lt_of hv hf
    exact s_iret C hf dX3_both_96
  refine b_tIn (k := 30) (j := 7) (tgt := 101) hx hb hf dX3_both_1 (by decide +kernel) rfl (by decide) (fun hf => ?_) (fun h11 hf => ?_)
  · refine lv_iload_n hx hb dX3_both_101 rfl (lv_at hl 1 rfl) ?_
    refine lv_iload_n hx hb dX3_both_102 rfl (lv_at hl 2 rfl) ?_
    refine lv_ior hx hb dX3_both_103 ?_
    exact s_iret C hf dX3_both_104
  refine b_tIn (k := 31) (j := 8) (tgt := 97) hx hb hf dX3_both_1 (by decide +kernel) rfl (by decide) (fun hf => ?_) (fun h12 hf => ?_)
  · refine lv_iload_n hx hb dX3_both_97 rfl (lv_at hl 1 rfl) ?_
    refine lv_iload_n hx hb dX3_both_98 rfl (lv_at hl 2 rfl) ?_
    refine lv_iand hx hb dX3_both_99 ?_
    exact s_iret C hf dX3_both_100
  have h1 : l0.toInt ≠ 23 := sw_ne h1
  have h2 : l0.toInt ≠ 24 := sw_ne h2
  have h3 : l0.toInt ≠ 25 := sw_ne h3
  have h4 : l0.toInt ≠ 26 := sw_ne h4
  have h5 : l0.toInt ≠ 27 := sw_ne h5
  have h7 : l0.toInt ≠ 28 := sw_ne h7
  have h9 : l0.toInt ≠ 29 := sw_ne h9
  have h11 : l0.toInt ≠ 30 := sw_ne h11
  have h12 : l0.toInt ≠ 31 := sw_ne h12
  refine lv_tableOut (tgt := 101) hx hb dX3_both_1 (by omega) (by decide) ?_
  refine lv_iload_n hx hb dX3_both_101 rfl (lv_at hl 1 rfl) ?_
  refine lv_iload_n hx hb dX3_both_102 rfl (lv_at hl 2 rfl) ?_
  refine lv_ior hx hb dX3_both_103 ?_
  exact s_iret C hf dX3_both_104
/-! greater(II)I -/
abbrev rmM_greater : Room := { frames := 0, cells := 0, slots := 0, locals := 0 }
def fM_greater (N : Nat) (l0 : Int32) (l1 : Int32) : Option Int32 :=
  lt (if l0 ≤ l1 then l1 else l0 : Int32) fun v1 =>
  some v1
theorem smM_greater (l : Launch) (N : Nat) : ∀ (l0 : Int32) (l1 : Int32) (r : Int32), fM_greater N l0 l1 = some r → sMet l yX3_greater (ws_ yX3_greater cX3_greater 2 (some .int)) rmM_greater [.int l0, .int l1] (some (.int r)) := by
  intro l0 l1 r hf
  refine s_start (cc := cX3_greater) (own := RX3) (by decide +kernel) rfl (Nat.le_of_ble_eq_true rfl) rfl ?_
  intro p e s m args below meth c ls C hl
  have hx := C.1
  have hb := C.2.1
  have hown := C.2.2.2.1
  have hts := C.2.2.2.2.1
  rw [fM_greater] at hf
  refine lv_iload_n hx hb dX3_greater_0 rfl (lv_at hl 0 rfl) ?_
  refine lv_iload_n hx hb dX3_greater_1 rfl (lv_at hl 1 rfl) ?_
  suffices hJ : ∀ v1 : Int32, (v1 = (if l0 ≤ l1 then l1 else l0 : Int32)) → W p l e rmM_greater s m args below meth c s.heap [] 0 0 (MQ below (sQ (some (.int r))) args s 0 0 (fun _ => False)) (F0 m 10 ls [.int v1]) by
    refine lv_icmp_le (tgt := 9) hx hb dX3_greater_2 (by decide) (fun hc => ?_) (fun hc => ?_)
    · refine lv_iload_n hx hb dX3_greater_9 rfl (lv_at hl 1 rfl) ?_
      exact hJ _ (if_pos hc).symm
    · refine lv_iload_n hx hb dX3_greater_5 rfl (lv_at hl 0 rfl) ?_
      refine lv_goto (tgt := 10) hx hb dX3_greater_6 (by decide) ?_
      exact hJ _ (if_neg hc).symm
  intro v1 hv
  have hf := lt_of hv hf
  exact s_iret C hf dX3_greater_10
/-! lesser(II)I -/
abbrev rmM_lesser : Room := { frames := 0, cells := 0, slots := 0, locals := 0 }
def fM_lesser (N : Nat) (l0 : Int32) (l1 : Int32) : Option Int32 :=
  lt (if l1 ≤ l0 then l1 else l0 : Int32) fun v1 =>
  some v1
theorem smM_lesser (l : Launch) (N : Nat) : ∀ (l0 : Int32) (l1 : Int32) (r : Int32), fM_lesser N l0 l1 = some r → sMet l yX3_lesser (ws_ yX3_lesser cX3_lesser 2 (some .int)) rmM_lesser [.int l0, .int l1] (some (.int r)) := by
  intro l0 l1 r hf
  refine s_start (cc := cX3_lesser) (own := RX3) (by decide +kernel) rfl (Nat.le_of_ble_eq_true rfl) rfl ?_
  intro p e s m args below meth c ls C hl
  have hx := C.1
  have hb := C.2.1
  have hown := C.2.2.2.1
  have hts := C.2.2.2.2.1
  rw [fM_lesser] at hf
  refine lv_iload_n hx hb dX3_lesser_0 rfl (lv_at hl 0 rfl) ?_
  refine lv_iload_n hx hb dX3_lesser_1 rfl (lv_at hl 1 rfl) ?_
  suffices hJ : ∀ v1 : Int32, (v1 = (if l1 ≤ l0 then l1 else l0 : Int32)) → W p l e rmM_lesser s m args below meth c s.heap [] 0 0 (MQ below (sQ (some (.int r))) args s 0 0 (fun _ => False)) (F0 m 10 ls [.int v1]) by
    refine lv_icmp_ge (tgt := 9) hx hb dX3_lesser_2 (by decide) (fun hc => ?_) (fun hc => ?_)
    · refine lv_iload_n hx hb dX3_lesser_9 rfl (lv_at hl 1 rfl) ?_
      exact hJ _ (if_pos hc).symm
    · refine lv_iload_n hx hb dX3_lesser_5 rfl (lv_at hl 0 rfl) ?_
      refine lv_goto (tgt := 10) hx hb dX3_lesser_6 (by decide) ?_
      exact hJ _ (if_neg hc).symm
  intro v1 hv
  have hf := lt_of hv hf
  exact s_iret C hf dX3_lesser_10
/-! held(III)I -/
abbrev rmM_held : Room := { frames := 1, cells := 0, slots := 0, locals := 21 }
def fM_held (N : Nat) (l0 : Int32) (l1 : Int32) (l2 : Int32) : Option Int32 :=
  (fM_lesser N l2 l0).bind fun v1 =>
  (fM_greater N l1 v1).bind fun v2 =>
  some v2
theorem smM_held (l : Launch) (N : Nat) : ∀ (l0 : Int32) (l1 : Int32) (l2 : Int32) (r : Int32), fM_held N l0 l1 l2 = some r → sMet l yX3_held (ws_ yX3_held cX3_held 3 (some .int)) rmM_held [.int l0, .int l1, .int l2] (some (.int r)) := by
  intro l0 l1 l2 r hf
  refine s_start (cc := cX3_held) (own := RX3) (by decide +kernel) rfl (Nat.le_of_ble_eq_true rfl) rfl ?_
  intro p e s m args below meth c ls C hl
  have hx := C.1
  have hb := C.2.1
  have hown := C.2.2.2.1
  have hts := C.2.2.2.2.1
  rw [fM_held] at hf
  refine lv_iload_n hx hb dX3_held_0 rfl (lv_at hl 1 rfl) ?_
  refine lv_iload_n hx hb dX3_held_1 rfl (lv_at hl 2 rfl) ?_
  refine lv_iload_n hx hb dX3_held_2 rfl (lv_at hl 0 rfl) ?_
  refine g_calliS (rest := [.int l1]) C hf (smM_lesser l N _ _) cqM_M_lesser ⟨rfl, rfl⟩ ⟨Nat.le_of_ble_eq_true rfl, Nat.le_of_ble_eq_true rfl⟩ rfl hl.1 rfl (Nat.le_of_ble_eq_true rfl) ⟨Nat.zero_le _, Nat.zero_le _⟩ dX3_held_3 (fun v1 hf => ?_)
  refine g_calliS (rest := []) C hf (smM_greater l N _ _) cqM_M_greater ⟨rfl, rfl⟩ ⟨Nat.le_of_ble_eq_true rfl, Nat.le_of_ble_eq_true rfl⟩ rfl hl.1 rfl (Nat.le_of_ble_eq_true rfl) ⟨Nat.zero_le _, Nat.zero_le _⟩ dX3_held_6 (fun v2 hf => ?_)
  exact s_iret C hf dX3_held_9
/-! count(I)I -/
abbrev rmM_count : Room := { frames := 0, cells := 0, slots := 0, locals := 0 }
def fM_count_b4 (N : Nat) : Nat → Int32 → Int32 → Int32 → Option Int32
  | 0, _, _, _ => none
  | n + 1, l0, l1, l2 =>
  if 12 ≤ l2 then
    some l1
  else
    fM_count_b4 N n l0 (l1 + ((l0 >>> (l2 &&& 31)) &&& 1)) (l2 + 1)
theorem w_fM_count_b4 {N : Nat} {r : Int32} (C : gC p s m args meth c cX3_count 3 RX3 (some .int)) : ∀ (n : Nat) (l0 : Int32) (l1 : Int32) (l2 : Int32) (ls : Array Slot), lv_has ls 3 [(0, .int l0), (1, .int l1), (2, .int l2)] → fM_count_b4 N n l0 l1 l2 = some r → W p l e rmM_count s m args below meth c s.heap [] 0 0 (MQ below (sQ (some (.int r))) args s 0 0 (fun _ => False)) (F0 m 4 ls []) := by
  have hx := C.1
  have hb := C.2.1
  have hown := C.2.2.2.1
  have hts := C.2.2.2.2.1
  intro n
  induction n with
  | zero => intro l0 l1 l2 ls hl hf; rw [fM_count_b4] at hf; cases hf
  | succ n ih =>
  intro l0 l1 l2 ls hl hf
  rw [fM_count_b4] at hf
  refine lv_iload_n hx hb dX3_count_4 rfl (lv_at hl 2 rfl) ?_
  refine lv_bipush (v := 12) hx hb dX3_count_5 (by decide) ?_
  refine b_icge (tgt := 24) hx hb hf dX3_count_7 (by decide) (fun hf => ?_) (fun hf => ?_)
  · refine lv_iload_n hx hb dX3_count_24 rfl (lv_at hl 1 rfl) ?_
    exact s_iret C hf dX3_count_25
  · refine lv_iload_n hx hb dX3_count_10 rfl (lv_at hl 1 rfl) ?_
    refine lv_iload_n hx hb dX3_count_11 rfl (lv_at hl 0 rfl) ?_
    refine lv_iload_n hx hb dX3_count_12 rfl (lv_at hl 2 rfl) ?_
    refine lv_ishr hx hb dX3_count_13 ?_
    refine lv_iconst (v := 1) hx hb dX3_count_14 (by decide) ?_
    refine lv_iand hx hb dX3_count_15 ?_
    refine lv_iadd hx hb dX3_count_16 ?_
    refine lv_istore_n (lv' := [(1, .int (l1 + ((l0 >>> (l2 &&& 31)) &&& 1))), (0, .int l0), (2, .int l2)]) hx hb dX3_count_17 rfl hl (by decide) rfl (fun ls hl => ?_)
    refine lv_iinc (v := l2 + 1) (lv' := [(2, .int (l2 + 1)), (1, .int (l1 + ((l0 >>> (l2 &&& 31)) &&& 1))), (0, .int l0)]) hx hb dX3_count_18 hl (k := 2) rfl rfl (by decide) rfl (fun ls hl => ?_)
    refine lv_goto (tgt := 4) hx hb dX3_count_21 (by decide) ?_
    exact ih l0 (l1 + ((l0 >>> (l2 &&& 31)) &&& 1)) (l2 + 1) _ (lv_sub hl [2, 1, 0] rfl) hf
def fM_count (N : Nat) (l0 : Int32) : Option Int32 :=
  fM_count_b4 N N l0 0 0
theorem smM_count (l : Launch) (N : Nat) : ∀ (l0 : Int32) (r : Int32), fM_count N l0 = some r → sMet l yX3_count (ws_ yX3_count cX3_count 3 (some .int)) rmM_count [.int l0] (some (.int r)) := by
  intro l0 r hf
  refine s_start (cc := cX3_count) (own := RX3) (by decide +kernel) rfl (Nat.le_of_ble_eq_true rfl) rfl ?_
  intro p e s m args below meth c ls C hl
  have hx := C.1
  have hb := C.2.1
  have hown := C.2.2.2.1
  have hts := C.2.2.2.2.1
  rw [fM_count] at hf
  refine lv_iconst (v := 0) hx hb dX3_count_0 (by decide) ?_
  refine lv_istore_n (lv' := [(1, .int 0), (0, .int l0)]) hx hb dX3_count_1 rfl hl (by decide) rfl (fun ls hl => ?_)
  refine lv_iconst (v := 0) hx hb dX3_count_2 (by decide) ?_
  refine lv_istore_n (lv' := [(2, .int 0), (1, .int 0), (0, .int l0)]) hx hb dX3_count_3 rfl hl (by decide) rfl (fun ls hl => ?_)
  exact w_fM_count_b4 C N l0 0 0 _ (lv_sub hl [2, 1, 0] rfl) hf
/-! sureBy(II)J -/
abbrev rmM_sureBy : Room := { frames := 0, cells := 0, slots := 0, locals := 0 }
def fM_sureBy_b7 (N : Nat) : Nat → Int32 → Int32 → Int64 → Int32 → Option Int64
  | 0, _, _, _, _ => none
  | n + 1, l0, l1, l2, l4 =>
  if l1 ≤ l4 then
    some (1000000 - l2)
  else
    (dvL (l2 * ((1000 - l0).toInt64)) 1000).bind fun v1 =>
    fM_sureBy_b7 N n l0 l1 v1 (l4 + 1)
theorem w_fM_sureBy_b7 {N : Nat} {r : Int64} (C : gC p s m args meth c cX3_sureBy 5 RX3 (some .long)) : ∀ (n : Nat) (l0 : Int32) (l1 : Int32) (l2 : Int64) (l4 : Int32) (ls : Array Slot), lv_has ls 5 [(0, .int l0), (1, .int l1), (2, .long l2), (4, .int l4)] → fM_sureBy_b7 N n l0 l1 l2 l4 = some r → W p l e rmM_sureBy s m args below meth c s.heap [] 0 0 (MQ below (sQ (some (.long r))) args s 0 0 (fun _ => False)) (F0 m 7 ls []) := by
  have hx := C.1
  have hb := C.2.1
  have hown := C.2.2.2.1
  have hts := C.2.2.2.2.1
  intro n
  induction n with
  | zero => intro l0 l1 l2 l4 ls hl hf; rw [fM_sureBy_b7] at hf; cases hf
  | succ n ih =>
  intro l0 l1 l2 l4 ls hl hf
  rw [fM_sureBy_b7] at hf
  refine lv_iload hx hb dX3_sureBy_7 (lv_at hl 3 rfl) ?_
  refine lv_iload_n hx hb dX3_sureBy_9 rfl (lv_at hl 1 rfl) ?_
  refine b_icge (tgt := 32) hx hb hf dX3_sureBy_10 (by decide) (fun hf => ?_) (fun hf => ?_)
  · refine lv_ldc2 hx hb hown (hts _ q1865) dX3_sureBy_32 ?_
    refine lv_lload_n hx hb dX3_sureBy_35 rfl (lv_at hl 2 rfl) ?_
    refine lv_lsub hx hb dX3_sureBy_36 ?_
    exact s_lret C hf dX3_sureBy_37
  · refine lv_lload_n hx hb dX3_sureBy_13 rfl (lv_at hl 2 rfl) ?_
    refine lv_sipush (v := 1000) hx hb dX3_sureBy_14 (by decide) ?_
    refine lv_iload_n hx hb dX3_sureBy_17 rfl (lv_at hl 0 rfl) ?_
    refine lv_isub hx hb dX3_sureBy_18 ?_
    refine lv_i2l (v := (1000 - l0).toInt64) hx hb dX3_sureBy_19 rfl ?_
    refine lv_lmul hx hb dX3_sureBy_20 ?_
    refine lv_ldc2 hx hb hown (hts _ q1873) dX3_sureBy_21 ?_
    refine b_ldiv hx hb hf dX3_sureBy_24 (fun v1 hf => ?_)
    refine lv_lstore_n (lv' := [(2, .long v1), (0, .int l0), (1, .int l1), (4, .int l4)]) hx hb dX3_sureBy_25 rfl hl (by decide) rfl (fun ls hl => ?_)
    refine lv_iinc (v := l4 + 1) (lv' := [(4, .int (l4 + 1)), (2, .long v1), (0, .int l0), (1, .int l1)]) hx hb dX3_sureBy_26 hl (k := 3) rfl rfl (by decide) rfl (fun ls hl => ?_)
    refine lv_goto (tgt := 7) hx hb dX3_sureBy_29 (by decide) ?_
    exact ih l0 l1 v1 (l4 + 1) _ (lv_sub hl [2, 3, 1, 0] rfl) hf
def fM_sureBy (N : Nat) (l0 : Int32) (l1 : Int32) : Option Int64 :=
  fM_sureBy_b7 N N l0 l1 1000000 0
theorem smM_sureBy (l : Launch) (N : Nat) : ∀ (l0 : Int32) (l1 : Int32) (r : Int64), fM_sureBy N l0 l1 = some r → sMet l yX3_sureBy (ws_ yX3_sureBy cX3_sureBy 5 (some .long)) rmM_sureBy [.int l0, .int l1] (some (.long r)) := by
  intro l0 l1 r hf
  refine s_start (cc := cX3_sureBy) (own := RX3) (by decide +kernel) rfl (Nat.le_of_ble_eq_true rfl) rfl ?_
  intro p e s m args below meth c ls C hl
  have hx := C.1
  have hb := C.2.1
  have hown := C.2.2.2.1
  have hts := C.2.2.2.2.1
  rw [fM_sureBy] at hf
  refine lv_ldc2 hx hb hown (hts _ q1865) dX3_sureBy_0 ?_
  refine lv_lstore_n (lv' := [(2, .long 1000000), (0, .int l0), (1, .int l1)]) hx hb dX3_sureBy_3 rfl hl (by decide) rfl (fun ls hl => ?_)
  refine lv_iconst (v := 0) hx hb dX3_sureBy_4 (by decide) ?_
  refine lv_istore (lv' := [(4, .int 0), (2, .long 1000000), (0, .int l0), (1, .int l1)]) hx hb dX3_sureBy_5 hl (by decide) rfl (fun ls hl => ?_)
  exact w_fM_sureBy_b7 C N l0 l1 1000000 0 _ (lv_sub hl [2, 3, 1, 0] rfl) hf
/-! downwards(II)I -/
abbrev rmM_downwards : Room := { frames := 0, cells := 0, slots := 0, locals := 0 }
def fM_downwards (N : Nat) (l0 : Int32) (l1 : Int32) : Option Int32 :=
  if 0 ≤ l0 then
    (dv l0 l1).bind fun v1 =>
    some v1
  else
    (rm_ l0 l1).bind fun v2 =>
    if v2 = 0 then
      (dv l0 l1).bind fun v4 =>
      some v4
    else
      (dv l0 l1).bind fun v3 =>
      some (v3 - 1)
theorem smM_downwards (l : Launch) (N : Nat) : ∀ (l0 : Int32) (l1 : Int32) (r : Int32), fM_downwards N l0 l1 = some r → sMet l yX3_downwards (ws_ yX3_downwards cX3_downwards 2 (some .int)) rmM_downwards [.int l0, .int l1] (some (.int r)) := by
  intro l0 l1 r hf
  refine s_start (cc := cX3_downwards) (own := RX3) (by decide +kernel) rfl (Nat.le_of_ble_eq_true rfl) rfl ?_
  intro p e s m args below meth c ls C hl
  have hx := C.1
  have hb := C.2.1
  have hown := C.2.2.2.1
  have hts := C.2.2.2.2.1
  rw [fM_downwards] at hf
  refine lv_iload_n hx hb dX3_downwards_0 rfl (lv_at hl 0 rfl) ?_
  refine b_ifge (tgt := 10) hx hb hf dX3_downwards_1 (by decide) (fun hf => ?_) (fun hf => ?_)
  · refine lv_iload_n hx hb dX3_downwards_10 rfl (lv_at hl 0 rfl) ?_
    refine lv_iload_n hx hb dX3_downwards_11 rfl (lv_at hl 1 rfl) ?_
    refine b_idiv hx hb hf dX3_downwards_12 (fun v1 hf => ?_)
    refine lv_goto (tgt := 21) hx hb dX3_downwards_13 (by decide) ?_
    exact s_iret C hf dX3_downwards_21
  · refine lv_iload_n hx hb dX3_downwards_4 rfl (lv_at hl 0 rfl) ?_
    refine lv_iload_n hx hb dX3_downwards_5 rfl (lv_at hl 1 rfl) ?_
    refine b_irem hx hb hf dX3_downwards_6 (fun v2 hf => ?_)
    refine b_ifne (tgt := 16) hx hb hf dX3_downwards_7 (by decide) (fun hf => ?_) (fun hf => ?_)
    · refine lv_iload_n hx hb dX3_downwards_16 rfl (lv_at hl 0 rfl) ?_
      refine lv_iload_n hx hb dX3_downwards_17 rfl (lv_at hl 1 rfl) ?_
      refine b_idiv hx hb hf dX3_downwards_18 (fun v3 hf => ?_)
      refine lv_iconst (v := 1) hx hb dX3_downwards_19 (by decide) ?_
      refine lv_isub hx hb dX3_downwards_20 ?_
      exact s_iret C hf dX3_downwards_21
    · refine lv_iload_n hx hb dX3_downwards_10 rfl (lv_at hl 0 rfl) ?_
      refine lv_iload_n hx hb dX3_downwards_11 rfl (lv_at hl 1 rfl) ?_
      refine b_idiv hx hb hf dX3_downwards_12 (fun v4 hf => ?_)
      refine lv_goto (tgt := 21) hx hb dX3_downwards_13 (by decide) ?_
      exact s_iret C hf dX3_downwards_21
