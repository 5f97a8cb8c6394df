set_option maxRecDepth 100000
variable {p : Program} {l : Launch} {e : Env} {R : Room} {s : State} {m : MethodId} {args : Array Value} {below : List Frame} {meth : Method} {c : Code} {H : Heap} {locs : List Loc} {Q : State → Prop}
variable {k : kO} {A : Nat → Prop}
/-! coder()B -/
abbrev rmJs_coder : Room := { frames := 0, cells := 0, slots := 0, locals := 0 }
def fJs_coder (N : Nat) (l0 : Nat) : Option Int32 :=
  if (1 : Int32) = 0 then
    if 1 = 0 then some 1 else none
  else
    some 0
theorem smJs_coder (l : Launch) (N : Nat) {k : kO} {A : Nat → Prop} {l0 : Nat} (hi_l0 : l0 < 25) : ∀ (r : Int32), fJs_coder N l0 = some r → jMet l yJ2_coder (ws_ yJ2_coder cJ2_coder 1 (some .byte)) rmJs_coder [.ref (k.1 l0)] k A (some (.int r)) := by
  intro  r hf
  refine j_start (cc := cJ2_coder) (own := RJ2) (by decide +kernel) rfl (Nat.le_of_ble_eq_true rfl) rfl ?_
  intro p e s m args below meth c ls C hl
  have hx := C.1.1
  have hb := C.1.2.1
  have hown := C.1.2.2.2.1
  have hts := C.1.2.2.2.2.1
  have hE := C.2
  rw [fJs_coder] at hf
  refine va_gets hx hb hE.2.1 va_S.rf hown (hts _ q483) (fun _ h => h) dJ2_coder_0 ?_
  refine b_ifeq (tgt := 13) hx hb hf dJ2_coder_3 (by decide) (fun hf => ?_) (fun hf => ?_)
  · refine lv_iconst (v := 1) hx hb dJ2_coder_13 (by decide) ?_
    exact s_bret C.1 (byte_zero hf).1 (byte_zero hf).2 dJ2_coder_14
  · refine lv_aload_n hx hb dJ2_coder_6 rfl (lv_at hl 0 rfl) ?_
    refine j_coder hx hb hown hts hE va_S.rf hi_l0 dJ2_coder_7 ?_
    refine lv_goto (tgt := 14) hx hb dJ2_coder_10 (by decide) ?_
    exact s_bret C.1 rfl hf dJ2_coder_14
/-! length()I -/
abbrev rmJs_length : Room := { frames := 1, cells := 0, slots := 0, locals := 20 }
def fJs_length (N : Nat) (l0 : Nat) : Option Int32 :=
  (fJs_coder N l0 ).bind fun v1 =>
  some ((nI (stN.getD l0 0)) >>> (v1 &&& 31))
theorem smJs_length (l : Launch) (N : Nat) {k : kO} {A : Nat → Prop} {l0 : Nat} (hi_l0 : l0 < 25) : ∀ (r : Int32), fJs_length N l0 = some r → jMet l yJ2_length (ws_ yJ2_length cJ2_length 1 (some .int)) rmJs_length [.ref (k.1 l0)] k A (some (.int r)) := by
  intro  r hf
  refine j_start (cc := cJ2_length) (own := RJ2) (by decide +kernel) rfl (Nat.le_of_ble_eq_true rfl) rfl ?_
  intro p e s m args below meth c ls C hl
  have hx := C.1.1
  have hb := C.1.2.1
  have hown := C.1.2.2.2.1
  have hts := C.1.2.2.2.2.1
  have hE := C.2
  rw [fJs_length] at hf
  refine lv_aload_n hx hb dJ2_length_0 rfl (lv_at hl 0 rfl) ?_
  refine j_value hx hb hown hts hE va_S.rf hi_l0 dJ2_length_1 ?_
  refine j_blen hx hb hE va_S.rf hi_l0 dJ2_length_4 ?_
  refine lv_aload_n hx hb dJ2_length_5 rfl (lv_at hl 0 rfl) ?_
  refine j_calli (rest := [.int (nI (stN.getD l0 0))]) C.1 hE va_S.rf hi_l0 hf (smJs_coder l N hi_l0) rfl cqJs_Js_coder ⟨rfl, rfl⟩ ⟨Nat.le_of_ble_eq_true rfl, Nat.le_of_ble_eq_true rfl⟩ rfl hl.1 rfl (Nat.le_of_ble_eq_true rfl) ⟨Nat.zero_le _, Nat.zero_le _⟩ dJ2_length_6 (fun v1 hf => ?_)
  refine lv_ishr hx hb dJ2_length_9 ?_
  exact s_iret C.1 hf dJ2_length_10
/-! isLatin1()Z -/
abbrev rmJs_isLatin1 : Room := { frames := 0, cells := 0, slots := 0, locals := 0 }
def fJs_isLatin1 (N : Nat) (l0 : Nat) : Option Int32 :=
  if (1 : Int32) = 0 then
    some 0
  else
    if (0 : Int32) = 0 then
      some 1
    else
      some 0
theorem smJs_isLatin1 (l : Launch) (N : Nat) {k : kO} {A : Nat → Prop} {l0 : Nat} (hi_l0 : l0 < 25) : ∀ (r : Int32), fJs_isLatin1 N l0 = some r → jMet l yJ2_isLatin1 (ws_ yJ2_isLatin1 cJ2_isLatin1 1 (some .boolean)) rmJs_isLatin1 [.ref (k.1 l0)] k A (some (.int r)) := by
  intro  r hf
  refine j_start (cc := cJ2_isLatin1) (own := RJ2) (by decide +kernel) rfl (Nat.le_of_ble_eq_true rfl) rfl ?_
  intro p e s m args below meth c ls C hl
  have hx := C.1.1
  have hb := C.1.2.1
  have hown := C.1.2.2.2.1
  have hts := C.1.2.2.2.2.1
  have hE := C.2
  rw [fJs_isLatin1] at hf
  refine va_gets hx hb hE.2.1 va_S.rf hown (hts _ q483) (fun _ h => h) dJ2_isLatin1_0 ?_
  refine b_ifeq (tgt := 17) hx hb hf dJ2_isLatin1_3 (by decide) (fun hf => ?_) (fun hf => ?_)
  · refine lv_iconst (v := 0) hx hb dJ2_isLatin1_17 (by decide) ?_
    exact s_zretc C.1 zb_0 hf dJ2_isLatin1_18
  · refine lv_aload_n hx hb dJ2_isLatin1_6 rfl (lv_at hl 0 rfl) ?_
    refine j_coder hx hb hown hts hE va_S.rf hi_l0 dJ2_isLatin1_7 ?_
    refine b_ifne (tgt := 17) hx hb hf dJ2_isLatin1_10 (by decide) (fun hf => ?_) (fun hf => ?_)
    · refine lv_iconst (v := 0) hx hb dJ2_isLatin1_17 (by decide) ?_
      exact s_zretc C.1 zb_0 hf dJ2_isLatin1_18
    · refine lv_iconst (v := 1) hx hb dJ2_isLatin1_13 (by decide) ?_
      refine lv_goto (tgt := 18) hx hb dJ2_isLatin1_14 (by decide) ?_
      exact s_zretc C.1 zb_1 hf dJ2_isLatin1_18
/-! charAt([BI)C -/
abbrev rmJl_charAt : Room := { frames := 2, cells := 0, slots := 0, locals := 43 }
def fJl_charAt (N : Nat) (l0 : Nat) (l1 : Int32) : Option Int32 :=
  (fJs_checkIndex N l1 (nI (stN.getD l0 0))).bind fun _ =>
  (rd (stN.getD l0 0) (fun j => (stB.getD l0 []).getD j 0) l1).bind fun v1 =>
  some (zc (((v1 &&& 255).toUInt32 % 65536).toInt32))
theorem smJl_charAt (l : Launch) (N : Nat) {k : kO} {A : Nat → Prop} {l0 : Nat} (hi_l0 : l0 < 25) : ∀ (l1 : Int32) (r : Int32), fJl_charAt N l0 l1 = some r → jMet l yJ3_charAt (ws_ yJ3_charAt cJ3_charAt 2 (some .char)) rmJl_charAt [.ref (k.2.1 l0), .int l1] k A (some (.int r)) := by
  intro l1 r hf
  refine j_start (cc := cJ3_charAt) (own := RJ3) (by decide +kernel) rfl (Nat.le_of_ble_eq_true rfl) rfl ?_
  intro p e s m args below meth c ls C hl
  have hx := C.1.1
  have hb := C.1.2.1
  have hown := C.1.2.2.2.1
  have hts := C.1.2.2.2.2.1
  have hE := C.2
  rw [fJl_charAt] at hf
  refine lv_iload_n hx hb dJ3_charAt_0 rfl (lv_at hl 1 rfl) ?_
  refine lv_aload_n hx hb dJ3_charAt_1 rfl (lv_at hl 0 rfl) ?_
  refine j_blen hx hb hE va_S.rf hi_l0 dJ3_charAt_2 ?_
  refine j_callvS (rest := []) C.1 hE va_S.rf hf (smJs_checkIndex l N _ _) cqJl_Js_checkIndex ⟨rfl, rfl⟩ ⟨Nat.le_of_ble_eq_true rfl, Nat.le_of_ble_eq_true rfl⟩ rfl hl.1 rfl (Nat.le_of_ble_eq_true rfl) ⟨Nat.zero_le _, Nat.zero_le _⟩ dJ3_charAt_3 (fun hf => ?_)
  refine lv_aload_n hx hb dJ3_charAt_6 rfl (lv_at hl 0 rfl) ?_
  refine lv_iload_n hx hb dJ3_charAt_7 rfl (lv_at hl 1 rfl) ?_
  refine j_bald hx hb hE va_S.rf hi_l0 hf dJ3_charAt_8 (fun v1 hf => ?_)
  refine lv_sipush (v := 255) hx hb dJ3_charAt_9 (by decide) ?_
  refine lv_iand hx hb dJ3_charAt_12 ?_
  refine lv_i2c (v := ((v1 &&& 255).toUInt32 % 65536).toInt32) hx hb dJ3_charAt_13 rfl ?_
  exact s_cret C.1 hf dJ3_charAt_14
/-! charAt(I)C -/
abbrev rmJs_charAt : Room := { frames := 3, cells := 0, slots := 0, locals := 64 }
def fJs_charAt (N : Nat) (l0 : Nat) (l1 : Int32) : Option Int32 :=
  (fJs_isLatin1 N l0 ).bind fun v1 =>
  if v1 = 0 then
    none
  else
    (fJl_charAt N l0 l1).bind fun v2 =>
    some (zc v2)
theorem smJs_charAt (l : Launch) (N : Nat) {k : kO} {A : Nat → Prop} {l0 : Nat} (hi_l0 : l0 < 25) : ∀ (l1 : Int32) (r : Int32), fJs_charAt N l0 l1 = some r → jMet l yJ2_charAt (ws_ yJ2_charAt cJ2_charAt 2 (some .char)) rmJs_charAt [.ref (k.1 l0), .int l1] k A (some (.int r)) := by
  intro l1 r hf
  refine j_start (cc := cJ2_charAt) (own := RJ2) (by decide +kernel) rfl (Nat.le_of_ble_eq_true rfl) rfl ?_
  intro p e s m args below meth c ls C hl
  have hx := C.1.1
  have hb := C.1.2.1
  have hown := C.1.2.2.2.1
  have hts := C.1.2.2.2.2.1
  have hE := C.2
  rw [fJs_charAt] at hf
  refine lv_aload_n hx hb dJ2_charAt_0 rfl (lv_at hl 0 rfl) ?_
  refine j_calli (rest := []) C.1 hE va_S.rf hi_l0 hf (smJs_isLatin1 l N hi_l0) rfl cqJs_Js_isLatin1 ⟨rfl, rfl⟩ ⟨Nat.le_of_ble_eq_true rfl, Nat.le_of_ble_eq_true rfl⟩ rfl hl.1 rfl (Nat.le_of_ble_eq_true rfl) ⟨Nat.zero_le _, Nat.zero_le _⟩ dJ2_charAt_1 (fun v1 hf => ?_)
  refine b_ifeq (tgt := 16) hx hb hf dJ2_charAt_4 (by decide) (fun hf => ?_) (fun hf => ?_)
  · cases hf
  · refine lv_aload_n hx hb dJ2_charAt_7 rfl (lv_at hl 0 rfl) ?_
    refine j_value hx hb hown hts hE va_S.rf hi_l0 dJ2_charAt_8 ?_
    refine lv_iload_n hx hb dJ2_charAt_11 rfl (lv_at hl 1 rfl) ?_
    refine j_calliS (rest := []) C.1 hE va_S.rf hf (smJl_charAt l N hi_l0 _) cqJs_Jl_charAt ⟨rfl, rfl⟩ ⟨Nat.le_of_ble_eq_true rfl, Nat.le_of_ble_eq_true rfl⟩ rfl hl.1 rfl (Nat.le_of_ble_eq_true rfl) ⟨Nat.zero_le _, Nat.zero_le _⟩ dJ2_charAt_12 (fun v2 hf => ?_)
    exact s_cret C.1 hf dJ2_charAt_15
/-! indexOfChar([BIII)I -/
abbrev rmJl_indexOfChar : Room := { frames := 0, cells := 0, slots := 0, locals := 0 }
def fJl_indexOfChar_b7 (N : Nat) : Nat → Nat → Int32 → Int32 → Int32 → Option Int32
  | 0, _, _, _, _ => none
  | n + 1, l0, l3, l4, l5 =>
  if l3 ≤ l5 then
    some (-1)
  else
    (rd (stN.getD l0 0) (fun j => (stB.getD l0 []).getD j 0) l5).bind fun v1 =>
    if v1 = l4 then
      some l5
    else
      fJl_indexOfChar_b7 N n l0 l3 l4 (l5 + 1)
theorem w_fJl_indexOfChar_b7 {N : Nat} {r : Int32} (C : jC k A p s m args meth c cJ3_indexOfChar 6 RJ3 (some .int)) : ∀ (n : Nat) (l0 : Nat) (l3 : Int32) (l4 : Int32) (l5 : Int32) (ls : Array Slot), l0 < 25 → lv_has ls 6 [(0, .ref (k.2.1 l0)), (3, .int l3), (4, .int l4), (5, .int l5)] → fJl_indexOfChar_b7 N n l0 l3 l4 l5 = some r → W p l e rmJl_indexOfChar s m args below meth c s.heap [] 0 0 (MQ below (sQ (some (.int r))) args s 0 0 (fun _ => False)) (F0 m 7 ls []) := by
  have hx := C.1.1
  have hb := C.1.2.1
  have hown := C.1.2.2.2.1
  have hts := C.1.2.2.2.2.1
  have hE := C.2
  intro n
  induction n with
  | zero => intro l0 l3 l4 l5 ls hi_l0 hl hf; rw [fJl_indexOfChar_b7] at hf; cases hf
  | succ n ih =>
  intro l0 l3 l4 l5 ls hi_l0 hl hf
  rw [fJl_indexOfChar_b7] at hf
  refine lv_iload hx hb dJ3_indexOfChar_7 (lv_at hl 3 rfl) ?_
  refine lv_iload_n hx hb dJ3_indexOfChar_9 rfl (lv_at hl 1 rfl) ?_
  refine b_icge (tgt := 31) hx hb hf dJ3_indexOfChar_10 (by decide) (fun hf => ?_) (fun hf => ?_)
  · refine lv_iconst (v := (-1)) hx hb dJ3_indexOfChar_31 (by decide) ?_
    exact s_iret C.1 hf dJ3_indexOfChar_32
  · refine lv_aload_n hx hb dJ3_indexOfChar_13 rfl (lv_at hl 0 rfl) ?_
    refine lv_iload hx hb dJ3_indexOfChar_14 (lv_at hl 3 rfl) ?_
    refine j_bald hx hb hE va_S.rf hi_l0 hf dJ3_indexOfChar_16 (fun v1 hf => ?_)
    refine lv_iload hx hb dJ3_indexOfChar_17 (lv_at hl 2 rfl) ?_
    refine b_icne (tgt := 25) hx hb hf dJ3_indexOfChar_19 (by decide) (fun hf => ?_) (fun hf => ?_)
    · refine lv_iinc (v := l5 + 1) (lv' := [(5, .int (l5 + 1)), (0, .ref (k.2.1 l0)), (3, .int l3), (4, .int l4)]) hx hb dJ3_indexOfChar_25 hl (k := 3) rfl rfl (by decide) rfl (fun ls hl => ?_)
      refine lv_goto (tgt := 7) hx hb dJ3_indexOfChar_28 (by decide) ?_
      exact ih l0 l3 l4 (l5 + 1) _ hi_l0 (lv_sub hl [1, 2, 3, 0] rfl) hf
    · refine lv_iload hx hb dJ3_indexOfChar_22 (lv_at hl 3 rfl) ?_
      exact s_iret C.1 hf dJ3_indexOfChar_24
def fJl_indexOfChar (N : Nat) (l0 : Nat) (l1 : Int32) (l2 : Int32) (l3 : Int32) : Option Int32 :=
  fJl_indexOfChar_b7 N N l0 l3 l1.toInt8.toInt32 l2
theorem smJl_indexOfChar (l : Launch) (N : Nat) {k : kO} {A : Nat → Prop} {l0 : Nat} (hi_l0 : l0 < 25) : ∀ (l1 : Int32) (l2 : Int32) (l3 : Int32) (r : Int32), fJl_indexOfChar N l0 l1 l2 l3 = some r → jMet l yJ3_indexOfChar (ws_ yJ3_indexOfChar cJ3_indexOfChar 6 (some .int)) rmJl_indexOfChar [.ref (k.2.1 l0), .int l1, .int l2, .int l3] k A (some (.int r)) := by
  intro l1 l2 l3 r hf
  refine j_start (cc := cJ3_indexOfChar) (own := RJ3) (by decide +kernel) rfl (Nat.le_of_ble_eq_true rfl) rfl ?_
  intro p e s m args below meth c ls C hl
  have hx := C.1.1
  have hb := C.1.2.1
  have hown := C.1.2.2.2.1
  have hts := C.1.2.2.2.2.1
  have hE := C.2
  rw [fJl_indexOfChar] at hf
  refine lv_iload_n hx hb dJ3_indexOfChar_0 rfl (lv_at hl 1 rfl) ?_
  refine lv_i2b (v := l1.toInt8.toInt32) hx hb dJ3_indexOfChar_1 rfl ?_
  refine lv_istore (lv' := [(4, .int l1.toInt8.toInt32), (0, .ref (k.2.1 l0)), (1, .int l1), (2, .int l2), (3, .int l3)]) hx hb dJ3_indexOfChar_2 hl (by decide) rfl (fun ls hl => ?_)
  refine lv_iload_n hx hb dJ3_indexOfChar_4 rfl (lv_at hl 3 rfl) ?_
  refine lv_istore (lv' := [(5, .int l2), (4, .int l1.toInt8.toInt32), (0, .ref (k.2.1 l0)), (1, .int l1), (2, .int l2), (3, .int l3)]) hx hb dJ3_indexOfChar_5 hl (by decide) rfl (fun ls hl => ?_)
  exact w_fJl_indexOfChar_b7 C N l0 l3 l1.toInt8.toInt32 l2 _ hi_l0 (lv_sub hl [2, 5, 1, 0] rfl) hf
/-! indexOf([BIII)I -/
abbrev rmJl_indexOf : Room := { frames := 1, cells := 0, slots := 0, locals := 25 }
def fJl_indexOf (N : Nat) (l0 : Nat) (l1 : Int32) (l2 : Int32) (l3 : Int32) : Option Int32 :=
  (fJl_canEncode N l1).bind fun v1 =>
  if v1 = 0 then
    some (-1)
  else
    (fJm_max N l2 0).bind fun v2 =>
    (fJm_min N l3 (nI (stN.getD l0 0))).bind fun v3 =>
    if v2 < v3 then
      (fJl_indexOfChar N l0 l1 v2 v3).bind fun v4 =>
      some v4
    else
      some (-1)
theorem smJl_indexOf (l : Launch) (N : Nat) {k : kO} {A : Nat → Prop} {l0 : Nat} (hi_l0 : l0 < 25) : ∀ (l1 : Int32) (l2 : Int32) (l3 : Int32) (r : Int32), fJl_indexOf N l0 l1 l2 l3 = some r → jMet l yJ3_indexOf (ws_ yJ3_indexOf cJ3_indexOf 4 (some .int)) rmJl_indexOf [.ref (k.2.1 l0), .int l1, .int l2, .int l3] k A (some (.int r)) := by
  intro l1 l2 l3 r hf
  refine j_start (cc := cJ3_indexOf) (own := RJ3) (by decide +kernel) rfl (Nat.le_of_ble_eq_true rfl) rfl ?_
  intro p e s m args below meth c ls C hl
  have hx := C.1.1
  have hb := C.1.2.1
  have hown := C.1.2.2.2.1
  have hts := C.1.2.2.2.2.1
  have hE := C.2
  rw [fJl_indexOf] at hf
  refine lv_iload_n hx hb dJ3_indexOf_0 rfl (lv_at hl 1 rfl) ?_
  refine g_calliS (rest := []) C.1 hf (smJl_canEncode l N _) cqJl_Jl_canEncode ⟨rfl, rfl⟩ ⟨Nat.le_of_ble_eq_true rfl, Nat.le_of_ble_eq_true rfl⟩ rfl hl.1 rfl (Nat.le_of_ble_eq_true rfl) ⟨Nat.zero_le _, Nat.zero_le _⟩ dJ3_indexOf_1 (fun v1 hf => ?_)
  refine b_ifne (tgt := 9) hx hb hf dJ3_indexOf_4 (by decide) (fun hf => ?_) (fun hf => ?_)
  · refine lv_iload_n hx hb dJ3_indexOf_9 rfl (lv_at hl 2 rfl) ?_
    refine lv_iconst (v := 0) hx hb dJ3_indexOf_10 (by decide) ?_
    refine g_calliS (rest := []) C.1 hf (smJm_max l N _ _) cqJl_Jm_max ⟨rfl, rfl⟩ ⟨Nat.le_of_ble_eq_true rfl, Nat.le_of_ble_eq_true rfl⟩ rfl hl.1 rfl (Nat.le_of_ble_eq_true rfl) ⟨Nat.zero_le _, Nat.zero_le _⟩ dJ3_indexOf_11 (fun v2 hf => ?_)
    refine lv_istore_n (lv' := [(2, .int v2), (0, .ref (k.2.1 l0)), (1, .int l1), (3, .int l3)]) hx hb dJ3_indexOf_14 rfl hl (by decide) rfl (fun ls hl => ?_)
    refine lv_iload_n hx hb dJ3_indexOf_15 rfl (lv_at hl 3 rfl) ?_
    refine lv_aload_n hx hb dJ3_indexOf_16 rfl (lv_at hl 1 rfl) ?_
    refine j_blen hx hb hE va_S.rf hi_l0 dJ3_indexOf_17 ?_
    refine g_calliS (rest := []) C.1 hf (smJm_min l N _ _) cqJl_Jm_min ⟨rfl, rfl⟩ ⟨Nat.le_of_ble_eq_true rfl, Nat.le_of_ble_eq_true rfl⟩ rfl hl.1 rfl (Nat.le_of_ble_eq_true rfl) ⟨Nat.zero_le _, Nat.zero_le _⟩ dJ3_indexOf_18 (fun v3 hf => ?_)
    refine lv_istore_n (lv' := [(3, .int v3), (2, .int v2), (0, .ref (k.2.1 l0)), (1, .int l1)]) hx hb dJ3_indexOf_21 rfl hl (by decide) rfl (fun ls hl => ?_)
    refine lv_iload_n hx hb dJ3_indexOf_22 rfl (lv_at hl 1 rfl) ?_
    refine lv_iload_n hx hb dJ3_indexOf_23 rfl (lv_at hl 0 rfl) ?_
    refine b_iclt (tgt := 29) hx hb hf dJ3_indexOf_24 (by decide) (fun hf => ?_) (fun hf => ?_)
    · refine lv_aload_n hx hb dJ3_indexOf_29 rfl (lv_at hl 2 rfl) ?_
      refine lv_iload_n hx hb dJ3_indexOf_30 rfl (lv_at hl 3 rfl) ?_
      refine lv_iload_n hx hb dJ3_indexOf_31 rfl (lv_at hl 1 rfl) ?_
      refine lv_iload_n hx hb dJ3_indexOf_32 rfl (lv_at hl 0 rfl) ?_
      refine j_calliS (rest := []) C.1 hE va_S.rf hf (smJl_indexOfChar l N hi_l0 _ _ _) cqJl_Jl_indexOfChar ⟨rfl, rfl⟩ ⟨Nat.le_of_ble_eq_true rfl, Nat.le_of_ble_eq_true rfl⟩ rfl hl.1 rfl (Nat.le_of_ble_eq_true rfl) ⟨Nat.zero_le _, Nat.zero_le _⟩ dJ3_indexOf_33 (fun v4 hf => ?_)
      exact s_iret C.1 hf dJ3_indexOf_36
    · refine lv_iconst (v := (-1)) hx hb dJ3_indexOf_27 (by decide) ?_
      exact s_iret C.1 hf dJ3_indexOf_28
  · refine lv_iconst (v := (-1)) hx hb dJ3_indexOf_7 (by decide) ?_
    exact s_iret C.1 hf dJ3_indexOf_8
/-! indexOf(II)I -/
abbrev rmJs_indexOf_2 : Room := { frames := 2, cells := 0, slots := 0, locals := 48 }
def fJs_indexOf_2 (N : Nat) (l0 : Nat) (l1 : Int32) (l2 : Int32) : Option Int32 :=
  (fJs_isLatin1 N l0 ).bind fun v1 =>
  if v1 = 0 then
    none
  else
    (fJs_length N l0 ).bind fun v2 =>
    (fJl_indexOf N l0 l1 l2 v2).bind fun v3 =>
    some v3
theorem smJs_indexOf_2 (l : Launch) (N : Nat) {k : kO} {A : Nat → Prop} {l0 : Nat} (hi_l0 : l0 < 25) : ∀ (l1 : Int32) (l2 : Int32) (r : Int32), fJs_indexOf_2 N l0 l1 l2 = some r → jMet l yJ2_indexOf_2 (ws_ yJ2_indexOf_2 cJ2_indexOf_2 3 (some .int)) rmJs_indexOf_2 [.ref (k.1 l0), .int l1, .int l2] k A (some (.int r)) := by
  intro l1 l2 r hf
  refine j_start (cc := cJ2_indexOf_2) (own := RJ2) (by decide +kernel) rfl (Nat.le_of_ble_eq_true rfl) rfl ?_
  intro p e s m args below meth c ls C hl
  have hx := C.1.1
  have hb := C.1.2.1
  have hown := C.1.2.2.2.1
  have hts := C.1.2.2.2.2.1
  have hE := C.2
  rw [fJs_indexOf_2] at hf
  refine lv_aload_n hx hb dJ2_indexOf_2_0 rfl (lv_at hl 0 rfl) ?_
  refine j_calli (rest := []) C.1 hE va_S.rf hi_l0 hf (smJs_isLatin1 l N hi_l0) rfl cqJs_Js_isLatin1 ⟨rfl, rfl⟩ ⟨Nat.le_of_ble_eq_true rfl, Nat.le_of_ble_eq_true rfl⟩ rfl hl.1 rfl (Nat.le_of_ble_eq_true rfl) ⟨Nat.zero_le _, Nat.zero_le _⟩ dJ2_indexOf_2_1 (fun v1 hf => ?_)
  refine b_ifeq (tgt := 23) hx hb hf dJ2_indexOf_2_4 (by decide) (fun hf => ?_) (fun hf => ?_)
  · cases hf
  · refine lv_aload_n hx hb dJ2_indexOf_2_7 rfl (lv_at hl 0 rfl) ?_
    refine j_value hx hb hown hts hE va_S.rf hi_l0 dJ2_indexOf_2_8 ?_
    refine lv_iload_n hx hb dJ2_indexOf_2_11 rfl (lv_at hl 1 rfl) ?_
    refine lv_iload_n hx hb dJ2_indexOf_2_12 rfl (lv_at hl 2 rfl) ?_
    refine lv_aload_n hx hb dJ2_indexOf_2_13 rfl (lv_at hl 0 rfl) ?_
    refine j_calli (rest := [.int l2, .int l1, .ref (k.2.1 l0)]) C.1 hE va_S.rf hi_l0 hf (smJs_length l N hi_l0) rfl cqJs_Js_length ⟨rfl, rfl⟩ ⟨Nat.le_of_ble_eq_true rfl, Nat.le_of_ble_eq_true rfl⟩ rfl hl.1 rfl (Nat.le_of_ble_eq_true rfl) ⟨Nat.zero_le _, Nat.zero_le _⟩ dJ2_indexOf_2_14 (fun v2 hf => ?_)
    refine j_calliS (rest := []) C.1 hE va_S.rf hf (smJl_indexOf l N hi_l0 _ _ _) cqJs_Jl_indexOf ⟨rfl, rfl⟩ ⟨Nat.le_of_ble_eq_true rfl, Nat.le_of_ble_eq_true rfl⟩ rfl hl.1 rfl (Nat.le_of_ble_eq_true rfl) ⟨Nat.zero_le _, Nat.zero_le _⟩ dJ2_indexOf_2_17 (fun v3 hf => ?_)
    refine lv_goto (tgt := 36) hx hb dJ2_indexOf_2_20 (by decide) ?_
    exact s_iret C.1 hf dJ2_indexOf_2_36
/-! indexOf(I)I -/
abbrev rmJs_indexOf : Room := { frames := 3, cells := 0, slots := 0, locals := 70 }
def fJs_indexOf (N : Nat) (l0 : Nat) (l1 : Int32) : Option Int32 :=
  (fJs_indexOf_2 N l0 l1 0).bind fun v1 =>
  some v1
theorem smJs_indexOf (l : Launch) (N : Nat) {k : kO} {A : Nat → Prop} {l0 : Nat} (hi_l0 : l0 < 25) : ∀ (l1 : Int32) (r : Int32), fJs_indexOf N l0 l1 = some r → jMet l yJ2_indexOf (ws_ yJ2_indexOf cJ2_indexOf 2 (some .int)) rmJs_indexOf [.ref (k.1 l0), .int l1] k A (some (.int r)) := by
  intro l1 r hf
  refine j_start (cc := cJ2_indexOf) (own := RJ2) (by decide +kernel) rfl (Nat.le_of_ble_eq_true rfl) rfl ?_
  intro p e s m args below meth c ls C hl
  have hx := C.1.1
  have hb := C.1.2.1
  have hown := C.1.2.2.2.1
  have hts := C.1.2.2.2.2.1
  have hE := C.2
  rw [fJs_indexOf] at hf
  refine lv_aload_n hx hb dJ2_indexOf_0 rfl (lv_at hl 0 rfl) ?_
  refine lv_iload_n hx hb dJ2_indexOf_1 rfl (lv_at hl 1 rfl) ?_
  refine lv_iconst (v := 0) hx hb dJ2_indexOf_2 (by decide) ?_
  refine j_calli (rest := []) C.1 hE va_S.rf hi_l0 hf (smJs_indexOf_2 l N hi_l0 _ _) rfl cqJs_Js_indexOf_2 ⟨rfl, rfl⟩ ⟨Nat.le_of_ble_eq_true rfl, Nat.le_of_ble_eq_true rfl⟩ rfl hl.1 rfl (Nat.le_of_ble_eq_true rfl) ⟨Nat.zero_le _, Nat.zero_le _⟩ dJ2_indexOf_3 (fun v1 hf => ?_)
  exact s_iret C.1 hf dJ2_indexOf_6
