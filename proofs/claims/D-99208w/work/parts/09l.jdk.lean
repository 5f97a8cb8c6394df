set_option maxRecDepth 100000
variable {p : Program} {l : Launch} {e : Env} {R : Room} {s : State} {m : MethodId} {args : Array Value} {below : List Frame} {meth : Method} {c : Code} {H : Heap} {locs : List Loc} {Q : State → Prop}
/-! max(II)I -/
abbrev rmJm_max : Room := { frames := 0, cells := 0, slots := 0, locals := 0 }
def fJm_max (N : Nat) (l0 : Int32) (l1 : Int32) : Option Int32 :=
  lt (if l0 < l1 then l1 else l0 : Int32) fun v1 =>
  some v1
theorem smJm_max (l : Launch) (N : Nat) : ∀ (l0 : Int32) (l1 : Int32) (r : Int32), fJm_max N l0 l1 = some r → sMet l yJ0_max (ws_ yJ0_max cJ0_max 2 (some .int)) rmJm_max [.int l0, .int l1] (some (.int r)) := by
  intro l0 l1 r hf
  refine s_start (cc := cJ0_max) (own := RJ0) (by decide +kernel) rfl (Nat.le_of_ble_eq_true rfl) rfl ?_
  intro p e s m args below meth c ls C hl
  have hx := C.1
  have hb := C.2.1
  have hown := C.2.2.2.1
  have hts := C.2.2.2.2.1
  rw [fJm_max] at hf
  refine lv_iload_n hx hb dJ0_max_0 rfl (lv_at hl 0 rfl) ?_
  refine lv_iload_n hx hb dJ0_max_1 rfl (lv_at hl 1 rfl) ?_
  suffices hJ : ∀ v1 : Int32, (v1 = (if l0 < l1 then l1 else l0 : Int32)) → W p l e rmJm_max s m args below meth c s.heap [] 0 0 (MQ below (sQ (some (.int r))) args s 0 0 (fun _ => False)) (F0 m 10 ls [.int v1]) by
    refine lv_icmp_lt (tgt := 9) hx hb dJ0_max_2 (by decide) (fun hc => ?_) (fun hc => ?_)
    · refine lv_iload_n hx hb dJ0_max_9 rfl (lv_at hl 1 rfl) ?_
      exact hJ _ (if_pos hc).symm
    · refine lv_iload_n hx hb dJ0_max_5 rfl (lv_at hl 0 rfl) ?_
      refine lv_goto (tgt := 10) hx hb dJ0_max_6 (by decide) ?_
      exact hJ _ (if_neg hc).symm
  intro v1 hv
  have hf := lt_of hv hf
  exact s_iret C hf dJ0_max_10
/-! min(II)I -/
abbrev rmJm_min : Room := { frames := 0, cells := 0, slots := 0, locals := 0 }
def fJm_min (N : Nat) (l0 : Int32) (l1 : Int32) : Option Int32 :=
  lt (if l1 < l0 then l1 else l0 : Int32) fun v1 =>
  some v1
theorem smJm_min (l : Launch) (N : Nat) : ∀ (l0 : Int32) (l1 : Int32) (r : Int32), fJm_min N l0 l1 = some r → sMet l yJ0_min (ws_ yJ0_min cJ0_min 2 (some .int)) rmJm_min [.int l0, .int l1] (some (.int r)) := by
  intro l0 l1 r hf
  refine s_start (cc := cJ0_min) (own := RJ0) (by decide +kernel) rfl (Nat.le_of_ble_eq_true rfl) rfl ?_
  intro p e s m args below meth c ls C hl
  have hx := C.1
  have hb := C.2.1
  have hown := C.2.2.2.1
  have hts := C.2.2.2.2.1
  rw [fJm_min] at hf
  refine lv_iload_n hx hb dJ0_min_0 rfl (lv_at hl 0 rfl) ?_
  refine lv_iload_n hx hb dJ0_min_1 rfl (lv_at hl 1 rfl) ?_
  suffices hJ : ∀ v1 : Int32, (v1 = (if l1 < l0 then l1 else l0 : Int32)) → W p l e rmJm_min s m args below meth c s.heap [] 0 0 (MQ below (sQ (some (.int r))) args s 0 0 (fun _ => False)) (F0 m 10 ls [.int v1]) by
    refine lv_icmp_gt (tgt := 9) hx hb dJ0_min_2 (by decide) (fun hc => ?_) (fun hc => ?_)
    · refine lv_iload_n hx hb dJ0_min_9 rfl (lv_at hl 1 rfl) ?_
      exact hJ _ (if_pos hc).symm
    · refine lv_iload_n hx hb dJ0_min_5 rfl (lv_at hl 0 rfl) ?_
      refine lv_goto (tgt := 10) hx hb dJ0_min_6 (by decide) ?_
      exact hJ _ (if_neg hc).symm
  intro v1 hv
  have hf := lt_of hv hf
  exact s_iret C hf dJ0_min_10
/-! floorDiv(II)I -/
abbrev rmJm_floorDiv : Room := { frames := 0, cells := 0, slots := 0, locals := 0 }
def fJm_floorDiv (N : Nat) (l0 : Int32) (l1 : Int32) : Option Int32 :=
  (dv l0 l1).bind fun v1 =>
  if 0 ≤ (l0 ^^^ l1) then
    some v1
  else
    if (v1 * l1) = l0 then
      some v1
    else
      some (v1 - 1)
theorem smJm_floorDiv (l : Launch) (N : Nat) : ∀ (l0 : Int32) (l1 : Int32) (r : Int32), fJm_floorDiv N l0 l1 = some r → sMet l yJ0_floorDiv (ws_ yJ0_floorDiv cJ0_floorDiv 3 (some .int)) rmJm_floorDiv [.int l0, .int l1] (some (.int r)) := by
  intro l0 l1 r hf
  refine s_start (cc := cJ0_floorDiv) (own := RJ0) (by decide +kernel) rfl (Nat.le_of_ble_eq_true rfl) rfl ?_
  intro p e s m args below meth c ls C hl
  have hx := C.1
  have hb := C.2.1
  have hown := C.2.2.2.1
  have hts := C.2.2.2.2.1
  rw [fJm_floorDiv] at hf
  refine lv_iload_n hx hb dJ0_floorDiv_0 rfl (lv_at hl 0 rfl) ?_
  refine lv_iload_n hx hb dJ0_floorDiv_1 rfl (lv_at hl 1 rfl) ?_
  refine b_idiv hx hb hf dJ0_floorDiv_2 (fun v1 hf => ?_)
  refine lv_istore_n (lv' := [(2, .int v1), (0, .int l0), (1, .int l1)]) hx hb dJ0_floorDiv_3 rfl hl (by decide) rfl (fun ls hl => ?_)
  refine lv_iload_n hx hb dJ0_floorDiv_4 rfl (lv_at hl 1 rfl) ?_
  refine lv_iload_n hx hb dJ0_floorDiv_5 rfl (lv_at hl 2 rfl) ?_
  refine lv_ixor hx hb dJ0_floorDiv_6 ?_
  refine b_ifge (tgt := 21) hx hb hf dJ0_floorDiv_7 (by decide) (fun hf => ?_) (fun hf => ?_)
  · refine lv_iload_n hx hb dJ0_floorDiv_21 rfl (lv_at hl 0 rfl) ?_
    exact s_iret C hf dJ0_floorDiv_22
  · refine lv_iload_n hx hb dJ0_floorDiv_10 rfl (lv_at hl 0 rfl) ?_
    refine lv_iload_n hx hb dJ0_floorDiv_11 rfl (lv_at hl 2 rfl) ?_
    refine lv_imul hx hb dJ0_floorDiv_12 ?_
    refine lv_iload_n hx hb dJ0_floorDiv_13 rfl (lv_at hl 1 rfl) ?_
    refine b_iceq (tgt := 21) hx hb hf dJ0_floorDiv_14 (by decide) (fun hf => ?_) (fun hf => ?_)
    · refine lv_iload_n hx hb dJ0_floorDiv_21 rfl (lv_at hl 0 rfl) ?_
      exact s_iret C hf dJ0_floorDiv_22
    · refine lv_iload_n hx hb dJ0_floorDiv_17 rfl (lv_at hl 0 rfl) ?_
      refine lv_iconst (v := 1) hx hb dJ0_floorDiv_18 (by decide) ?_
      refine lv_isub hx hb dJ0_floorDiv_19 ?_
      exact s_iret C hf dJ0_floorDiv_20
/-! bitCount(I)I -/
abbrev rmJi_bitCount : Room := { frames := 0, cells := 0, slots := 0, locals := 0 }
def fJi_bitCount (N : Nat) (l0 : Int32) : Option Int32 :=
  some ((((((((l0 - ((ush l0 1) &&& 1431655765)) &&& 858993459) + ((ush (l0 - ((ush l0 1) &&& 1431655765)) 2) &&& 858993459)) + (ush (((l0 - ((ush l0 1) &&& 1431655765)) &&& 858993459) + ((ush (l0 - ((ush l0 1) &&& 1431655765)) 2) &&& 858993459)) 4)) &&& 252645135) + (ush (((((l0 - ((ush l0 1) &&& 1431655765)) &&& 858993459) + ((ush (l0 - ((ush l0 1) &&& 1431655765)) 2) &&& 858993459)) + (ush (((l0 - ((ush l0 1) &&& 1431655765)) &&& 858993459) + ((ush (l0 - ((ush l0 1) &&& 1431655765)) 2) &&& 858993459)) 4)) &&& 252645135) 8)) + (ush ((((((l0 - ((ush l0 1) &&& 1431655765)) &&& 858993459) + ((ush (l0 - ((ush l0 1) &&& 1431655765)) 2) &&& 858993459)) + (ush (((l0 - ((ush l0 1) &&& 1431655765)) &&& 858993459) + ((ush (l0 - ((ush l0 1) &&& 1431655765)) 2) &&& 858993459)) 4)) &&& 252645135) + (ush (((((l0 - ((ush l0 1) &&& 1431655765)) &&& 858993459) + ((ush (l0 - ((ush l0 1) &&& 1431655765)) 2) &&& 858993459)) + (ush (((l0 - ((ush l0 1) &&& 1431655765)) &&& 858993459) + ((ush (l0 - ((ush l0 1) &&& 1431655765)) 2) &&& 858993459)) 4)) &&& 252645135) 8)) 16)) &&& 63)
theorem smJi_bitCount (l : Launch) (N : Nat) : ∀ (l0 : Int32) (r : Int32), fJi_bitCount N l0 = some r → sMet l yJ1_bitCount (ws_ yJ1_bitCount cJ1_bitCount 1 (some .int)) rmJi_bitCount [.int l0] (some (.int r)) := by
  intro l0 r hf
  refine s_start (cc := cJ1_bitCount) (own := RJ1) (by decide +kernel) rfl (Nat.le_of_ble_eq_true rfl) rfl ?_
  intro p e s m args below meth c ls C hl
  have hx := C.1
  have hb := C.2.1
  have hown := C.2.2.2.1
  have hts := C.2.2.2.2.1
  rw [fJi_bitCount] at hf
  refine lv_iload_n hx hb dJ1_bitCount_0 rfl (lv_at hl 0 rfl) ?_
  refine lv_iload_n hx hb dJ1_bitCount_1 rfl (lv_at hl 0 rfl) ?_
  refine lv_iconst (v := 1) hx hb dJ1_bitCount_2 (by decide) ?_
  refine lv_iushr (v := ush l0 1) hx hb dJ1_bitCount_3 rfl ?_
  refine lv_ldcw hx hb hown (hts _ q926) dJ1_bitCount_4 ?_
  refine lv_iand hx hb dJ1_bitCount_7 ?_
  refine lv_isub hx hb dJ1_bitCount_8 ?_
  refine lv_istore_n (lv' := [(0, .int (l0 - ((ush l0 1) &&& 1431655765)))]) hx hb dJ1_bitCount_9 rfl hl (by decide) rfl (fun ls hl => ?_)
  refine lv_iload_n hx hb dJ1_bitCount_10 rfl (lv_at hl 0 rfl) ?_
  refine lv_ldcw hx hb hown (hts _ q927) dJ1_bitCount_11 ?_
  refine lv_iand hx hb dJ1_bitCount_14 ?_
  refine lv_iload_n hx hb dJ1_bitCount_15 rfl (lv_at hl 0 rfl) ?_
  refine lv_iconst (v := 2) hx hb dJ1_bitCount_16 (by decide) ?_
  refine lv_iushr (v := ush (l0 - ((ush l0 1) &&& 1431655765)) 2) hx hb dJ1_bitCount_17 rfl ?_
  refine lv_ldcw hx hb hown (hts _ q927) dJ1_bitCount_18 ?_
  refine lv_iand hx hb dJ1_bitCount_21 ?_
  refine lv_iadd hx hb dJ1_bitCount_22 ?_
  refine lv_istore_n (lv' := [(0, .int (((l0 - ((ush l0 1) &&& 1431655765)) &&& 858993459) + ((ush (l0 - ((ush l0 1) &&& 1431655765)) 2) &&& 858993459)))]) hx hb dJ1_bitCount_23 rfl hl (by decide) rfl (fun ls hl => ?_)
  refine lv_iload_n hx hb dJ1_bitCount_24 rfl (lv_at hl 0 rfl) ?_
  refine lv_iload_n hx hb dJ1_bitCount_25 rfl (lv_at hl 0 rfl) ?_
  refine lv_iconst (v := 4) hx hb dJ1_bitCount_26 (by decide) ?_
  refine lv_iushr (v := ush (((l0 - ((ush l0 1) &&& 1431655765)) &&& 858993459) + ((ush (l0 - ((ush l0 1) &&& 1431655765)) 2) &&& 858993459)) 4) hx hb dJ1_bitCount_27 rfl ?_
  refine lv_iadd hx hb dJ1_bitCount_28 ?_
  refine lv_ldcw hx hb hown (hts _ q928) dJ1_bitCount_29 ?_
  refine lv_iand hx hb dJ1_bitCount_32 ?_
  refine lv_istore_n (lv' := [(0, .int (((((l0 - ((ush l0 1) &&& 1431655765)) &&& 858993459) + ((ush (l0 - ((ush l0 1) &&& 1431655765)) 2) &&& 858993459)) + (ush (((l0 - ((ush l0 1) &&& 1431655765)) &&& 858993459) + ((ush (l0 - ((ush l0 1) &&& 1431655765)) 2) &&& 858993459)) 4)) &&& 252645135))]) hx hb dJ1_bitCount_33 rfl hl (by decide) rfl (fun ls hl => ?_)
  refine lv_iload_n hx hb dJ1_bitCount_34 rfl (lv_at hl 0 rfl) ?_
  refine lv_iload_n hx hb dJ1_bitCount_35 rfl (lv_at hl 0 rfl) ?_
  refine lv_bipush (v := 8) hx hb dJ1_bitCount_36 (by decide) ?_
  refine lv_iushr (v := ush (((((l0 - ((ush l0 1) &&& 1431655765)) &&& 858993459) + ((ush (l0 - ((ush l0 1) &&& 1431655765)) 2) &&& 858993459)) + (ush (((l0 - ((ush l0 1) &&& 1431655765)) &&& 858993459) + ((ush (l0 - ((ush l0 1) &&& 1431655765)) 2) &&& 858993459)) 4)) &&& 252645135) 8) hx hb dJ1_bitCount_38 rfl ?_
  refine lv_iadd hx hb dJ1_bitCount_39 ?_
  refine lv_istore_n (lv' := [(0, .int ((((((l0 - ((ush l0 1) &&& 1431655765)) &&& 858993459) + ((ush (l0 - ((ush l0 1) &&& 1431655765)) 2) &&& 858993459)) + (ush (((l0 - ((ush l0 1) &&& 1431655765)) &&& 858993459) + ((ush (l0 - ((ush l0 1) &&& 1431655765)) 2) &&& 858993459)) 4)) &&& 252645135) + (ush (((((l0 - ((ush l0 1) &&& 1431655765)) &&& 858993459) + ((ush (l0 - ((ush l0 1) &&& 1431655765)) 2) &&& 858993459)) + (ush (((l0 - ((ush l0 1) &&& 1431655765)) &&& 858993459) + ((ush (l0 - ((ush l0 1) &&& 1431655765)) 2) &&& 858993459)) 4)) &&& 252645135) 8)))]) hx hb dJ1_bitCount_40 rfl hl (by decide) rfl (fun ls hl => ?_)
  refine lv_iload_n hx hb dJ1_bitCount_41 rfl (lv_at hl 0 rfl) ?_
  refine lv_iload_n hx hb dJ1_bitCount_42 rfl (lv_at hl 0 rfl) ?_
  refine lv_bipush (v := 16) hx hb dJ1_bitCount_43 (by decide) ?_
  refine lv_iushr (v := ush ((((((l0 - ((ush l0 1) &&& 1431655765)) &&& 858993459) + ((ush (l0 - ((ush l0 1) &&& 1431655765)) 2) &&& 858993459)) + (ush (((l0 - ((ush l0 1) &&& 1431655765)) &&& 858993459) + ((ush (l0 - ((ush l0 1) &&& 1431655765)) 2) &&& 858993459)) 4)) &&& 252645135) + (ush (((((l0 - ((ush l0 1) &&& 1431655765)) &&& 858993459) + ((ush (l0 - ((ush l0 1) &&& 1431655765)) 2) &&& 858993459)) + (ush (((l0 - ((ush l0 1) &&& 1431655765)) &&& 858993459) + ((ush (l0 - ((ush l0 1) &&& 1431655765)) 2) &&& 858993459)) 4)) &&& 252645135) 8)) 16) hx hb dJ1_bitCount_45 rfl ?_
  refine lv_iadd hx hb dJ1_bitCount_46 ?_
  refine lv_istore_n (lv' := [(0, .int (((((((l0 - ((ush l0 1) &&& 1431655765)) &&& 858993459) + ((ush (l0 - ((ush l0 1) &&& 1431655765)) 2) &&& 858993459)) + (ush (((l0 - ((ush l0 1) &&& 1431655765)) &&& 858993459) + ((ush (l0 - ((ush l0 1) &&& 1431655765)) 2) &&& 858993459)) 4)) &&& 252645135) + (ush (((((l0 - ((ush l0 1) &&& 1431655765)) &&& 858993459) + ((ush (l0 - ((ush l0 1) &&& 1431655765)) 2) &&& 858993459)) + (ush (((l0 - ((ush l0 1) &&& 1431655765)) &&& 858993459) + ((ush (l0 - ((ush l0 1) &&& 1431655765)) 2) &&& 858993459)) 4)) &&& 252645135) 8)) + (ush ((((((l0 - ((ush l0 1) &&& 1431655765)) &&& 858993459) + ((ush (l0 - ((ush l0 1) &&& 1431655765)) 2) &&& 858993459)) + (ush (((l0 - ((ush l0 1) &&& 1431655765)) &&& 858993459) + ((ush (l0 - ((ush l0 1) &&& 1431655765)) 2) &&& 858993459)) 4)) &&& 252645135) + (ush (((((l0 - ((ush l0 1) &&& 1431655765)) &&& 858993459) + ((ush (l0 - ((ush l0 1) &&& 1431655765)) 2) &&& 858993459)) + (ush (((l0 - ((ush l0 1) &&& 1431655765)) &&& 858993459) + ((ush (l0 - ((ush l0 1) &&& 1431655765)) 2) &&& 858993459)) 4)) &&& 252645135) 8)) 16)))]) hx hb dJ1_bitCount_47 rfl hl (by decide) rfl (fun ls hl => ?_)
  refine lv_iload_n hx hb dJ1_bitCount_48 rfl (lv_at hl 0 rfl) ?_
  refine lv_bipush (v := 63) hx hb dJ1_bitCount_49 (by decide) ?_
  refine lv_iand hx hb dJ1_bitCount_51 ?_
  exact s_iret C hf dJ1_bitCount_52
/-! canEncode(I)Z -/
abbrev rmJl_canEncode : Room := { frames := 0, cells := 0, slots := 0, locals := 0 }
def fJl_canEncode (N : Nat) (l0 : Int32) : Option Int32 :=
  if l0 < 0 then
    some 0
  else
    if 255 < l0 then
      some 0
    else
      some 1
theorem smJl_canEncode (l : Launch) (N : Nat) : ∀ (l0 : Int32) (r : Int32), fJl_canEncode N l0 = some r → sMet l yJ3_canEncode (ws_ yJ3_canEncode cJ3_canEncode 1 (some .boolean)) rmJl_canEncode [.int l0] (some (.int r)) := by
  intro l0 r hf
  refine s_start (cc := cJ3_canEncode) (own := RJ3) (by decide +kernel) rfl (Nat.le_of_ble_eq_true rfl) rfl ?_
  intro p e s m args below meth c ls C hl
  have hx := C.1
  have hb := C.2.1
  have hown := C.2.2.2.1
  have hts := C.2.2.2.2.1
  rw [fJl_canEncode] at hf
  refine lv_iload_n hx hb dJ3_canEncode_0 rfl (lv_at hl 0 rfl) ?_
  refine b_iflt (tgt := 15) hx hb hf dJ3_canEncode_1 (by decide) (fun hf => ?_) (fun hf => ?_)
  · refine lv_iconst (v := 0) hx hb dJ3_canEncode_15 (by decide) ?_
    exact s_zretc C zb_0 hf dJ3_canEncode_16
  · refine lv_iload_n hx hb dJ3_canEncode_4 rfl (lv_at hl 0 rfl) ?_
    refine lv_sipush (v := 255) hx hb dJ3_canEncode_5 (by decide) ?_
    refine b_icgt (tgt := 15) hx hb hf dJ3_canEncode_8 (by decide) (fun hf => ?_) (fun hf => ?_)
    · refine lv_iconst (v := 0) hx hb dJ3_canEncode_15 (by decide) ?_
      exact s_zretc C zb_0 hf dJ3_canEncode_16
    · refine lv_iconst (v := 1) hx hb dJ3_canEncode_11 (by decide) ?_
      refine lv_goto (tgt := 16) hx hb dJ3_canEncode_12 (by decide) ?_
      exact s_zretc C zb_1 hf dJ3_canEncode_16
