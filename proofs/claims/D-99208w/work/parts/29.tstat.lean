set_option maxRecDepth 100000
variable {p : Program} {l : Launch} {e : Env} {R : Room} {s : State} {m : MethodId} {args : Array Value} {below : List Frame} {meth : Method} {c : Code} {H : Heap} {locs : List Loc} {Q : State → Prop}
/-! TwelveChain.isIn(III)Z -/
abbrev rmT_isIn : Room := { frames := 0, cells := 0, slots := 0, locals := 0 }
def fT_isIn (N : Nat) (l0 : Int32) (l1 : Int32) (l2 : Int32) : Option Int32 :=
  if l0 < l1 then
    some 0
  else
    if l2 < l0 then
      some 0
    else
      some 1
theorem smT_isIn (l : Launch) (N : Nat) : ∀ (l0 : Int32) (l1 : Int32) (l2 : Int32) (r : Int32), fT_isIn N l0 l1 l2 = some r → sMet l yX0_isIn (ws_ yX0_isIn cX0_isIn 3 (some .boolean)) rmT_isIn [.int l0, .int l1, .int l2] (some (.int r)) := by
  intro l0 l1 l2 r hf
  refine s_start (cc := cX0_isIn) (own := RX0) (by decide +kernel) rfl (Nat.le_of_ble_eq_true rfl) rfl ?_
  intro p e s m args below meth c ls C hl
  have hx := C.1
  have hb := C.2.1
  have hown := C.2.2.2.1
  have hts := C.2.2.2.2.1
  rw [fT_isIn] at hf
  refine lv_iload_n hx hb dX0_isIn_0 rfl (lv_at hl 0 rfl) ?_
  refine lv_iload_n hx hb dX0_isIn_1 rfl (lv_at hl 1 rfl) ?_
  refine b_iclt (tgt := 14) hx hb hf dX0_isIn_2 (by decide) (fun hf => ?_) (fun hf => ?_)
  · refine lv_iconst (v := 0) hx hb dX0_isIn_14 (by decide) ?_
    exact s_zretc C zb_0 hf dX0_isIn_15
  · refine lv_iload_n hx hb dX0_isIn_5 rfl (lv_at hl 0 rfl) ?_
    refine lv_iload_n hx hb dX0_isIn_6 rfl (lv_at hl 2 rfl) ?_
    refine b_icgt (tgt := 14) hx hb hf dX0_isIn_7 (by decide) (fun hf => ?_) (fun hf => ?_)
    · refine lv_iconst (v := 0) hx hb dX0_isIn_14 (by decide) ?_
      exact s_zretc C zb_0 hf dX0_isIn_15
    · refine lv_iconst (v := 1) hx hb dX0_isIn_10 (by decide) ?_
      refine lv_goto (tgt := 15) hx hb dX0_isIn_11 (by decide) ?_
      exact s_zretc C zb_1 hf dX0_isIn_15
/-! TwelveChain.isDigit(I)Z -/
abbrev rmT_isDigit : Room := { frames := 1, cells := 0, slots := 0, locals := 22 }
def fT_isDigit (N : Nat) (l0 : Int32) : Option Int32 :=
  (fT_isIn N l0 48 57).bind fun v1 =>
  some (zb v1)
theorem smT_isDigit (l : Launch) (N : Nat) : ∀ (l0 : Int32) (r : Int32), fT_isDigit N l0 = some r → sMet l yX0_isDigit (ws_ yX0_isDigit cX0_isDigit 1 (some .boolean)) rmT_isDigit [.int l0] (some (.int r)) := by
  intro l0 r hf
  refine s_start (cc := cX0_isDigit) (own := RX0) (by decide +kernel) rfl (Nat.le_of_ble_eq_true rfl) rfl ?_
  intro p e s m args below meth c ls C hl
  have hx := C.1
  have hb := C.2.1
  have hown := C.2.2.2.1
  have hts := C.2.2.2.2.1
  rw [fT_isDigit] at hf
  refine lv_iload_n hx hb dX0_isDigit_0 rfl (lv_at hl 0 rfl) ?_
  refine lv_bipush (v := 48) hx hb dX0_isDigit_1 (by decide) ?_
  refine lv_bipush (v := 57) hx hb dX0_isDigit_3 (by decide) ?_
  refine g_calliS (rest := []) C hf (smT_isIn l N _ _ _) cqT_T_isIn ⟨rfl, rfl⟩ ⟨Nat.le_of_ble_eq_true rfl, Nat.le_of_ble_eq_true rfl⟩ rfl hl.1 rfl (Nat.le_of_ble_eq_true rfl) ⟨Nat.zero_le _, Nat.zero_le _⟩ dX0_isDigit_5 (fun v1 hf => ?_)
  exact s_zret C hf dX0_isDigit_8
/-! TwelveChain.isLetter(I)Z -/
abbrev rmT_isLetter : Room := { frames := 1, cells := 0, slots := 0, locals := 22 }
def fT_isLetter (N : Nat) (l0 : Int32) : Option Int32 :=
  (fT_isIn N l0 97 122).bind fun v1 =>
  if v1 = 0 then
    (fT_isIn N l0 65 90).bind fun v2 =>
    if v2 = 0 then
      some 0
    else
      some 1
  else
    some 1
theorem smT_isLetter (l : Launch) (N : Nat) : ∀ (l0 : Int32) (r : Int32), fT_isLetter N l0 = some r → sMet l yX0_isLetter (ws_ yX0_isLetter cX0_isLetter 1 (some .boolean)) rmT_isLetter [.int l0] (some (.int r)) := by
  intro l0 r hf
  refine s_start (cc := cX0_isLetter) (own := RX0) (by decide +kernel) rfl (Nat.le_of_ble_eq_true rfl) rfl ?_
  intro p e s m args below meth c ls C hl
  have hx := C.1
  have hb := C.2.1
  have hown := C.2.2.2.1
  have hts := C.2.2.2.2.1
  rw [fT_isLetter] at hf
  refine lv_iload_n hx hb dX0_isLetter_0 rfl (lv_at hl 0 rfl) ?_
  refine lv_bipush (v := 97) hx hb dX0_isLetter_1 (by decide) ?_
  refine lv_bipush (v := 122) hx hb dX0_isLetter_3 (by decide) ?_
  refine g_calliS (rest := []) C hf (smT_isIn l N _ _ _) cqT_T_isIn ⟨rfl, rfl⟩ ⟨Nat.le_of_ble_eq_true rfl, Nat.le_of_ble_eq_true rfl⟩ rfl hl.1 rfl (Nat.le_of_ble_eq_true rfl) ⟨Nat.zero_le _, Nat.zero_le _⟩ dX0_isLetter_5 (fun v1 hf => ?_)
  refine b_ifne (tgt := 22) hx hb hf dX0_isLetter_8 (by decide) (fun hf => ?_) (fun hf => ?_)
  · refine lv_iconst (v := 1) hx hb dX0_isLetter_22 (by decide) ?_
    refine lv_goto (tgt := 27) hx hb dX0_isLetter_23 (by decide) ?_
    exact s_zretc C zb_1 hf dX0_isLetter_27
  · refine lv_iload_n hx hb dX0_isLetter_11 rfl (lv_at hl 0 rfl) ?_
    refine lv_bipush (v := 65) hx hb dX0_isLetter_12 (by decide) ?_
    refine lv_bipush (v := 90) hx hb dX0_isLetter_14 (by decide) ?_
    refine g_calliS (rest := []) C hf (smT_isIn l N _ _ _) cqT_T_isIn ⟨rfl, rfl⟩ ⟨Nat.le_of_ble_eq_true rfl, Nat.le_of_ble_eq_true rfl⟩ rfl hl.1 rfl (Nat.le_of_ble_eq_true rfl) ⟨Nat.zero_le _, Nat.zero_le _⟩ dX0_isLetter_16 (fun v2 hf => ?_)
    refine b_ifeq (tgt := 26) hx hb hf dX0_isLetter_19 (by decide) (fun hf => ?_) (fun hf => ?_)
    · refine lv_iconst (v := 0) hx hb dX0_isLetter_26 (by decide) ?_
      exact s_zretc C zb_0 hf dX0_isLetter_27
    · refine lv_iconst (v := 1) hx hb dX0_isLetter_22 (by decide) ?_
      refine lv_goto (tgt := 27) hx hb dX0_isLetter_23 (by decide) ?_
      exact s_zretc C zb_1 hf dX0_isLetter_27
/-! TwelveChain.isWithin(II)Z -/
abbrev rmT_isWithin : Room := { frames := 1, cells := 0, slots := 0, locals := 22 }
def fT_isWithin (N : Nat) (l0 : Int32) (l1 : Int32) : Option Int32 :=
  if l0 = 0 then
    (fT_isIn N l1 1 999).bind fun v2 =>
    some (zb v2)
  else if l0 = 1 then
    (fT_isIn N l1 (-9999) 9999).bind fun v4 =>
    some (zb v4)
  else if l0 = 2 then
    (fT_isIn N l1 (-999) 999).bind fun v6 =>
    some (zb v6)
  else if l0 = 3 then
    (fT_isIn N l1 0 9).bind fun v8 =>
    some (zb v8)
  else 
    if l0 = 4 then
    (fT_isIn N l1 0 1).bind fun v9 =>
    if v9 = 0 then
      some 0
    else
      some 1
  else
    some 0
theorem smT_isWithin (l : Launch) (N : Nat) : ∀ (l0 : Int32) (l1 : Int32) (r : Int32), fT_isWithin N l0 l1 = some r → sMet l yX0_isWithin (ws_ yX0_isWithin cX0_isWithin 2 (some .boolean)) rmT_isWithin [.int l0, .int l1] (some (.int r)) := by
  intro l0 l1 r hf
  refine s_start (cc := cX0_isWithin) (own := RX0) (by decide +kernel) rfl (Nat.le_of_ble_eq_true rfl) rfl ?_
  intro p e s m args below meth c ls C hl
  have hx := C.1
  have hb := C.2.1
  have hown := C.2.2.2.1
  have hts := C.2.2.2.2.1
  rw [fT_isWithin] at hf
  refine lv_iload_n hx hb dX0_isWithin_0 rfl (lv_at hl 0 rfl) ?_
  refine b_tIn (k := 0) (j := 0) (tgt := 32) hx hb hf dX0_isWithin_1 (by decide +kernel) rfl (by decide) (fun hf => ?_) (fun h1 hf => ?_)
  · refine lv_iload_n hx hb dX0_isWithin_32 rfl (lv_at hl 1 rfl) ?_
    refine lv_iconst (v := 1) hx hb dX0_isWithin_33 (by decide) ?_
    refine lv_sipush (v := 999) hx hb dX0_isWithin_34 (by decide) ?_
    refine g_calliS (rest := []) C hf (smT_isIn l N _ _ _) cqT_T_isIn ⟨rfl, rfl⟩ ⟨Nat.le_of_ble_eq_true rfl, Nat.le_of_ble_eq_true rfl⟩ rfl hl.1 rfl (Nat.le_of_ble_eq_true rfl) ⟨Nat.zero_le _, Nat.zero_le _⟩ dX0_isWithin_37 (fun v2 hf => ?_)
    exact s_zret C hf dX0_isWithin_40
  refine b_tIn (k := 1) (j := 1) (tgt := 41) hx hb hf dX0_isWithin_1 (by decide +kernel) rfl (by decide) (fun hf => ?_) (fun h3 hf => ?_)
  · refine lv_iload_n hx hb dX0_isWithin_41 rfl (lv_at hl 1 rfl) ?_
    refine lv_sipush (v := (-9999)) hx hb dX0_isWithin_42 (by decide) ?_
    refine lv_sipush (v := 9999) hx hb dX0_isWithin_45 (by decide) ?_
    refine g_calliS (rest := []) C hf (smT_isIn l N _ _ _) cqT_T_isIn ⟨rfl, rfl⟩ ⟨Nat.le_of_ble_eq_true rfl, Nat.le_of_ble_eq_true rfl⟩ rfl hl.1 rfl (Nat.le_of_ble_eq_true rfl) ⟨Nat.zero_le _, Nat.zero_le _⟩ dX0_isWithin_48 (fun v4 hf => ?_)
    exact s_zret C hf dX0_isWithin_51
  refine b_tIn (k := 2) (j := 2) (tgt := 52) hx hb hf dX0_isWithin_1 (by decide +kernel) rfl (by decide) (fun hf => ?_) (fun h5 hf => ?_)
  · refine lv_iload_n hx hb dX0_isWithin_52 rfl (lv_at hl 1 rfl) ?_
    refine lv_sipush (v := (-999)) hx hb dX0_isWithin_53 (by decide) ?_
    refine lv_sipush (v := 999) hx hb dX0_isWithin_56 (by decide) ?_
    refine g_calliS (rest := []) C hf (smT_isIn l N _ _ _) cqT_T_isIn ⟨rfl, rfl⟩ ⟨Nat.le_of_ble_eq_true rfl, Nat.le_of_ble_eq_true rfl⟩ rfl hl.1 rfl (Nat.le_of_ble_eq_true rfl) ⟨Nat.zero_le _, Nat.zero_le _⟩ dX0_isWithin_59 (fun v6 hf => ?_)
    exact s_zret C hf dX0_isWithin_62
  refine b_tIn (k := 3) (j := 3) (tgt := 63) hx hb hf dX0_isWithin_1 (by decide +kernel) rfl (by decide) (fun hf => ?_) (fun h7 hf => ?_)
  · refine lv_iload_n hx hb dX0_isWithin_63 rfl (lv_at hl 1 rfl) ?_
    refine lv_iconst (v := 0) hx hb dX0_isWithin_64 (by decide) ?_
    refine lv_bipush (v := 9) hx hb dX0_isWithin_65 (by decide) ?_
    refine g_calliS (rest := []) C hf (smT_isIn l N _ _ _) cqT_T_isIn ⟨rfl, rfl⟩ ⟨Nat.le_of_ble_eq_true rfl, Nat.le_of_ble_eq_true rfl⟩ rfl hl.1 rfl (Nat.le_of_ble_eq_true rfl) ⟨Nat.zero_le _, Nat.zero_le _⟩ dX0_isWithin_67 (fun v8 hf => ?_)
    exact s_zret C hf dX0_isWithin_70
  have h1 : l0.toInt ≠ 0 := sw_ne h1
  have h3 : l0.toInt ≠ 1 := sw_ne h3
  have h5 : l0.toInt ≠ 2 := sw_ne h5
  have h7 : l0.toInt ≠ 3 := sw_ne h7
  refine lv_tableOut (tgt := 71) hx hb dX0_isWithin_1 (by omega) (by decide) ?_
  refine lv_iload_n hx hb dX0_isWithin_71 rfl (lv_at hl 0 rfl) ?_
  refine lv_iconst (v := 4) hx hb dX0_isWithin_72 (by decide) ?_
  refine b_icne (tgt := 89) hx hb hf dX0_isWithin_73 (by decide) (fun hf => ?_) (fun hf => ?_)
  · refine lv_iconst (v := 0) hx hb dX0_isWithin_89 (by decide) ?_
    exact s_zretc C zb_0 hf dX0_isWithin_90
  · refine lv_iload_n hx hb dX0_isWithin_76 rfl (lv_at hl 1 rfl) ?_
    refine lv_iconst (v := 0) hx hb dX0_isWithin_77 (by decide) ?_
    refine lv_iconst (v := 1) hx hb dX0_isWithin_78 (by decide) ?_
    refine g_calliS (rest := []) C hf (smT_isIn l N _ _ _) cqT_T_isIn ⟨rfl, rfl⟩ ⟨Nat.le_of_ble_eq_true rfl, Nat.le_of_ble_eq_true rfl⟩ rfl hl.1 rfl (Nat.le_of_ble_eq_true rfl) ⟨Nat.zero_le _, Nat.zero_le _⟩ dX0_isWithin_79 (fun v9 hf => ?_)
    refine b_ifeq (tgt := 89) hx hb hf dX0_isWithin_82 (by decide) (fun hf => ?_) (fun hf => ?_)
    · refine lv_iconst (v := 0) hx hb dX0_isWithin_89 (by decide) ?_
      exact s_zretc C zb_0 hf dX0_isWithin_90
    · refine lv_iconst (v := 1) hx hb dX0_isWithin_85 (by decide) ?_
      refine lv_goto (tgt := 90) hx hb dX0_isWithin_86 (by decide) ?_
      exact s_zretc C zb_1 hf dX0_isWithin_90
/-! TwelveChain.has(II)Z -/
abbrev rmT_has : Room := { frames := 0, cells := 0, slots := 0, locals := 0 }
def fT_has (N : Nat) (l0 : Int32) (l1 : Int32) : Option Int32 :=
  lt (if ((l0 >>> (l1 &&& 31)) &&& 1) = 1 then 1 else 0 : Int32) fun v1 =>
  some (zb v1)
theorem smT_has (l : Launch) (N : Nat) : ∀ (l0 : Int32) (l1 : Int32) (r : Int32), fT_has N l0 l1 = some r → sMet l yX0_has (ws_ yX0_has cX0_has 2 (some .boolean)) rmT_has [.int l0, .int l1] (some (.int r)) := by
  intro l0 l1 r hf
  refine s_start (cc := cX0_has) (own := RX0) (by decide +kernel) rfl (Nat.le_of_ble_eq_true rfl) rfl ?_
  intro p e s m args below meth c ls C hl
  have hx := C.1
  have hb := C.2.1
  have hown := C.2.2.2.1
  have hts := C.2.2.2.2.1
  rw [fT_has] at hf
  refine lv_iload_n hx hb dX0_has_0 rfl (lv_at hl 0 rfl) ?_
  refine lv_iload_n hx hb dX0_has_1 rfl (lv_at hl 1 rfl) ?_
  refine lv_ishr hx hb dX0_has_2 ?_
  refine lv_iconst (v := 1) hx hb dX0_has_3 (by decide) ?_
  refine lv_iand hx hb dX0_has_4 ?_
  refine lv_iconst (v := 1) hx hb dX0_has_5 (by decide) ?_
  suffices hJ : ∀ v1 : Int32, (v1 = (if ((l0 >>> (l1 &&& 31)) &&& 1) = 1 then 1 else 0 : Int32)) → W p l e rmT_has s m args below meth c s.heap [] 0 0 (MQ below (sQ (some (.int r))) args s 0 0 (fun _ => False)) (F0 m 14 ls [.int v1]) by
    refine lv_icmp_ne (tgt := 13) hx hb dX0_has_6 (by decide) (fun hc => ?_) (fun hc => ?_)
    · refine lv_iconst (v := 0) hx hb dX0_has_13 (by decide) ?_
      exact hJ _ (if_neg hc).symm
    · refine lv_iconst (v := 1) hx hb dX0_has_9 (by decide) ?_
      refine lv_goto (tgt := 14) hx hb dX0_has_10 (by decide) ?_
      exact hJ _ (if_pos hc).symm
  intro v1 hv
  have hf := lt_of hv hf
  exact s_zret C hf dX0_has_14
/-! TwelveChain.held(III)I -/
abbrev rmT_held : Room := { frames := 1, cells := 0, slots := 0, locals := 21 }
def fT_held (N : Nat) (l0 : Int32) (l1 : Int32) (l2 : Int32) : Option Int32 :=
  (fJm_min N l2 l0).bind fun v1 =>
  (fJm_max N l1 v1).bind fun v2 =>
  some v2
theorem smT_held (l : Launch) (N : Nat) : ∀ (l0 : Int32) (l1 : Int32) (l2 : Int32) (r : Int32), fT_held N l0 l1 l2 = some r → sMet l yX0_held (ws_ yX0_held cX0_held 3 (some .int)) rmT_held [.int l0, .int l1, .int l2] (some (.int r)) := by
  intro l0 l1 l2 r hf
  refine s_start (cc := cX0_held) (own := RX0) (by decide +kernel) rfl (Nat.le_of_ble_eq_true rfl) rfl ?_
  intro p e s m args below meth c ls C hl
  have hx := C.1
  have hb := C.2.1
  have hown := C.2.2.2.1
  have hts := C.2.2.2.2.1
  rw [fT_held] at hf
  refine lv_iload_n hx hb dX0_held_0 rfl (lv_at hl 1 rfl) ?_
  refine lv_iload_n hx hb dX0_held_1 rfl (lv_at hl 2 rfl) ?_
  refine lv_iload_n hx hb dX0_held_2 rfl (lv_at hl 0 rfl) ?_
  refine g_calliS (rest := [.int l1]) C hf (smJm_min l N _ _) cqT_Jm_min ⟨rfl, rfl⟩ ⟨Nat.le_of_ble_eq_true rfl, Nat.le_of_ble_eq_true rfl⟩ rfl hl.1 rfl (Nat.le_of_ble_eq_true rfl) ⟨Nat.zero_le _, Nat.zero_le _⟩ dX0_held_3 (fun v1 hf => ?_)
  refine g_calliS (rest := []) C hf (smJm_max l N _ _) cqT_Jm_max ⟨rfl, rfl⟩ ⟨Nat.le_of_ble_eq_true rfl, Nat.le_of_ble_eq_true rfl⟩ rfl hl.1 rfl (Nat.le_of_ble_eq_true rfl) ⟨Nat.zero_le _, Nat.zero_le _⟩ dX0_held_6 (fun v2 hf => ?_)
  exact s_iret C hf dX0_held_9
/-! TwelveChain.partOf(III)I -/
abbrev rmT_partOf : Room := { frames := 0, cells := 0, slots := 0, locals := 0 }
def fT_partOf (N : Nat) (l0 : Int32) (l1 : Int32) (l2 : Int32) : Option Int32 :=
  (dvL (l0.toInt64 * l1.toInt64) l2.toInt64).bind fun v1 =>
  some v1.toInt32
theorem smT_partOf (l : Launch) (N : Nat) : ∀ (l0 : Int32) (l1 : Int32) (l2 : Int32) (r : Int32), fT_partOf N l0 l1 l2 = some r → sMet l yX0_partOf (ws_ yX0_partOf cX0_partOf 3 (some .int)) rmT_partOf [.int l0, .int l1, .int l2] (some (.int r)) := by
  intro l0 l1 l2 r hf
  refine s_start (cc := cX0_partOf) (own := RX0) (by decide +kernel) rfl (Nat.le_of_ble_eq_true rfl) rfl ?_
  intro p e s m args below meth c ls C hl
  have hx := C.1
  have hb := C.2.1
  have hown := C.2.2.2.1
  have hts := C.2.2.2.2.1
  rw [fT_partOf] at hf
  refine lv_iload_n hx hb dX0_partOf_0 rfl (lv_at hl 0 rfl) ?_
  refine lv_i2l (v := l0.toInt64) hx hb dX0_partOf_1 rfl ?_
  refine lv_iload_n hx hb dX0_partOf_2 rfl (lv_at hl 1 rfl) ?_
  refine lv_i2l (v := l1.toInt64) hx hb dX0_partOf_3 rfl ?_
  refine lv_lmul hx hb dX0_partOf_4 ?_
  refine lv_iload_n hx hb dX0_partOf_5 rfl (lv_at hl 2 rfl) ?_
  refine lv_i2l (v := l2.toInt64) hx hb dX0_partOf_6 rfl ?_
  refine b_ldiv hx hb hf dX0_partOf_7 (fun v1 hf => ?_)
  refine lv_l2i (v := v1.toInt32) hx hb dX0_partOf_8 rfl ?_
  exact s_iret C hf dX0_partOf_9
/-! TwelveChain.readyBy(II)I -/
abbrev rmT_readyBy : Room := { frames := 1, cells := 0, slots := 0, locals := 22 }
def fT_readyBy_b6 (N : Nat) : Nat → Int32 → Int32 → Int32 → Int32 → Option Int32
  | 0, _, _, _, _ => none
  | n + 1, l0, l1, l2, l3 =>
  if l1 ≤ l3 then
    some (1000000 - l2)
  else
    (fT_partOf N l2 (1000 - l0) 1000).bind fun v1 =>
    fT_readyBy_b6 N n l0 l1 v1 (l3 + 1)
theorem w_fT_readyBy_b6 {N : Nat} {r : Int32} (C : gC p s m args meth c cX0_readyBy 4 RX0 (some .int)) : ∀ (n : Nat) (l0 : Int32) (l1 : Int32) (l2 : Int32) (l3 : Int32) (ls : Array Slot), lv_has ls 4 [(0, .int l0), (1, .int l1), (2, .int l2), (3, .int l3)] → fT_readyBy_b6 N n l0 l1 l2 l3 = some r → W p l e rmT_readyBy s m args below meth c s.heap [] 0 0 (MQ below (sQ (some (.int r))) args s 0 0 (fun _ => False)) (F0 m 6 ls []) := by
  have hx := C.1
  have hb := C.2.1
  have hown := C.2.2.2.1
  have hts := C.2.2.2.2.1
  intro n
  induction n with
  | zero => intro l0 l1 l2 l3 ls hl hf; rw [fT_readyBy_b6] at hf; cases hf
  | succ n ih =>
  intro l0 l1 l2 l3 ls hl hf
  rw [fT_readyBy_b6] at hf
  refine lv_iload_n hx hb dX0_readyBy_6 rfl (lv_at hl 3 rfl) ?_
  refine lv_iload_n hx hb dX0_readyBy_7 rfl (lv_at hl 1 rfl) ?_
  refine b_icge (tgt := 30) hx hb hf dX0_readyBy_8 (by decide) (fun hf => ?_) (fun hf => ?_)
  · refine lv_ldcw hx hb hown (hts _ q1162) dX0_readyBy_30 ?_
    refine lv_iload_n hx hb dX0_readyBy_33 rfl (lv_at hl 2 rfl) ?_
    refine lv_isub hx hb dX0_readyBy_34 ?_
    exact s_iret C hf dX0_readyBy_35
  · refine lv_iload_n hx hb dX0_readyBy_11 rfl (lv_at hl 2 rfl) ?_
    refine lv_sipush (v := 1000) hx hb dX0_readyBy_12 (by decide) ?_
    refine lv_iload_n hx hb dX0_readyBy_15 rfl (lv_at hl 0 rfl) ?_
    refine lv_isub hx hb dX0_readyBy_16 ?_
    refine lv_sipush (v := 1000) hx hb dX0_readyBy_17 (by decide) ?_
    refine g_calliS (rest := []) C hf (smT_partOf l N _ _ _) cqT_T_partOf ⟨rfl, rfl⟩ ⟨Nat.le_of_ble_eq_true rfl, Nat.le_of_ble_eq_true rfl⟩ rfl hl.1 rfl (Nat.le_of_ble_eq_true rfl) ⟨Nat.zero_le _, Nat.zero_le _⟩ dX0_readyBy_20 (fun v1 hf => ?_)
    refine lv_istore_n (lv' := [(2, .int v1), (0, .int l0), (1, .int l1), (3, .int l3)]) hx hb dX0_readyBy_23 rfl hl (by decide) rfl (fun ls hl => ?_)
    refine lv_iinc (v := l3 + 1) (lv' := [(3, .int (l3 + 1)), (2, .int v1), (0, .int l0), (1, .int l1)]) hx hb dX0_readyBy_24 hl (k := 3) rfl rfl (by decide) rfl (fun ls hl => ?_)
    refine lv_goto (tgt := 6) hx hb dX0_readyBy_27 (by decide) ?_
    exact ih l0 l1 v1 (l3 + 1) _ (lv_sub hl [2, 3, 1, 0] rfl) hf
def fT_readyBy (N : Nat) (l0 : Int32) (l1 : Int32) : Option Int32 :=
  fT_readyBy_b6 N N l0 l1 1000000 0
theorem smT_readyBy (l : Launch) (N : Nat) : ∀ (l0 : Int32) (l1 : Int32) (r : Int32), fT_readyBy N l0 l1 = some r → sMet l yX0_readyBy (ws_ yX0_readyBy cX0_readyBy 4 (some .int)) rmT_readyBy [.int l0, .int l1] (some (.int r)) := by
  intro l0 l1 r hf
  refine s_start (cc := cX0_readyBy) (own := RX0) (by decide +kernel) rfl (Nat.le_of_ble_eq_true rfl) rfl ?_
  intro p e s m args below meth c ls C hl
  have hx := C.1
  have hb := C.2.1
  have hown := C.2.2.2.1
  have hts := C.2.2.2.2.1
  rw [fT_readyBy] at hf
  refine lv_ldcw hx hb hown (hts _ q1162) dX0_readyBy_0 ?_
  refine lv_istore_n (lv' := [(2, .int 1000000), (0, .int l0), (1, .int l1)]) hx hb dX0_readyBy_3 rfl hl (by decide) rfl (fun ls hl => ?_)
  refine lv_iconst (v := 0) hx hb dX0_readyBy_4 (by decide) ?_
  refine lv_istore_n (lv' := [(3, .int 0), (2, .int 1000000), (0, .int l0), (1, .int l1)]) hx hb dX0_readyBy_5 rfl hl (by decide) rfl (fun ls hl => ?_)
  exact w_fT_readyBy_b6 C N l0 l1 1000000 0 _ (lv_sub hl [2, 3, 1, 0] rfl) hf
/-! TwelveChain.isBeyond(II)Z -/
abbrev rmT_isBeyond : Room := { frames := 0, cells := 0, slots := 0, locals := 0 }
def fT_isBeyond (N : Nat) (l0 : Int32) (l1 : Int32) : Option Int32 :=
  lt (if (l1 &&& (l0 ^^^ (-1))) = 0 then 1 else 0 : Int32) fun v1 =>
  some (zb v1)
theorem smT_isBeyond (l : Launch) (N : Nat) : ∀ (l0 : Int32) (l1 : Int32) (r : Int32), fT_isBeyond N l0 l1 = some r → sMet l yX0_isBeyond (ws_ yX0_isBeyond cX0_isBeyond 2 (some .boolean)) rmT_isBeyond [.int l0, .int l1] (some (.int r)) := by
  intro l0 l1 r hf
  refine s_start (cc := cX0_isBeyond) (own := RX0) (by decide +kernel) rfl (Nat.le_of_ble_eq_true rfl) rfl ?_
  intro p e s m args below meth c ls C hl
  have hx := C.1
  have hb := C.2.1
  have hown := C.2.2.2.1
  have hts := C.2.2.2.2.1
  rw [fT_isBeyond] at hf
  refine lv_iload_n hx hb dX0_isBeyond_0 rfl (lv_at hl 1 rfl) ?_
  refine lv_iload_n hx hb dX0_isBeyond_1 rfl (lv_at hl 0 rfl) ?_
  refine lv_iconst (v := (-1)) hx hb dX0_isBeyond_2 (by decide) ?_
  refine lv_ixor hx hb dX0_isBeyond_3 ?_
  refine lv_iand hx hb dX0_isBeyond_4 ?_
  suffices hJ : ∀ v1 : Int32, (v1 = (if (l1 &&& (l0 ^^^ (-1))) = 0 then 1 else 0 : Int32)) → W p l e rmT_isBeyond s m args below meth c s.heap [] 0 0 (MQ below (sQ (some (.int r))) args s 0 0 (fun _ => False)) (F0 m 13 ls [.int v1]) by
    refine lv_if_ne (tgt := 12) hx hb dX0_isBeyond_5 (by decide) (fun hc => ?_) (fun hc => ?_)
    · refine lv_iconst (v := 0) hx hb dX0_isBeyond_12 (by decide) ?_
      exact hJ _ (if_neg hc).symm
    · refine lv_iconst (v := 1) hx hb dX0_isBeyond_8 (by decide) ?_
      refine lv_goto (tgt := 13) hx hb dX0_isBeyond_9 (by decide) ?_
      exact hJ _ (if_pos hc).symm
  intro v1 hv
  have hf := lt_of hv hf
  exact s_zret C hf dX0_isBeyond_13
