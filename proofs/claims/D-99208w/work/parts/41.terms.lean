set_option maxRecDepth 100000
variable {p : Program} {l : Launch} {e : Env} {R : Room} {s : State} {m : MethodId} {args : Array Value} {below : List Frame} {meth : Method} {c : Code} {H : Heap} {locs : List Loc} {Q : State → Prop}
variable {w : tO} {A : Nat → Prop}
/-! TwelveChain$Number.of([I)I -/

def fNu_of (N : Nat) (B : Nat × Nat) (K : TS → Nat → Option (Int32 × TS)) (x : TS) (l0 : Nat) : Option (Int32 × TS) :=
  (dgI x l0 5 0).bind fun v1 =>
  some (v1, x)
theorem tmNu_of (l : Launch) (N : Nat) {w : tO} {A : Nat → Prop} (B : Nat × Nat) {K : TS → Nat → Option (Int32 × TS)} {d : Nat} (hK : ofOK l w A B K (frTe d) (loTe d)) : ∀ (x : TS) (l0 : Nat) (r : Int32) (xr : TS), fNu_of N B K x l0 = some (r, xr) → tMet l yX6_of (ws_ yX6_of cX6_of 2 (some .int)) (frTe (d + 1)) (loTe (d + 1)) [.ref l0, .ref (wa w 17)] w A B x (some (.int r)) xr := by
  intro x l0 r xr hf
  refine t_start (cc := cX6_of) (own := RX6) (by decide +kernel) rfl (Nat.le_of_ble_eq_true rfl) rfl ?_
  intro p e s m args below meth c ls H locs C hmn hI hl
  have hx := C.1.1
  have hb := C.1.2.1
  have hown := C.1.2.2.2.1
  have hts := C.1.2.2.2.2.1
  have hE := C.2.2
  rw [fNu_of] at hf
  refine lv_aload_n hx hb dX6_of_0 rfl (lv_at hl 0 rfl) ?_
  refine tgX6_7 C hI hf dX6_of_1 (fun v1 hf => ?_)
  exact t_iret C hI hf dX6_of_4
/-! TwelveChain$Word.of([I)I -/

def fWo_of (N : Nat) (B : Nat × Nat) (K : TS → Nat → Option (Int32 × TS)) (x : TS) (l0 : Nat) : Option (Int32 × TS) :=
  (dgI x l0 6 0).bind fun v1 =>
  (rd 9 (tA x 17) v1).bind fun v2 =>
  some (v2, x)
theorem tmWo_of (l : Launch) (N : Nat) {w : tO} {A : Nat → Prop} (B : Nat × Nat) {K : TS → Nat → Option (Int32 × TS)} {d : Nat} (hK : ofOK l w A B K (frTe d) (loTe d)) : ∀ (x : TS) (l0 : Nat) (r : Int32) (xr : TS), fWo_of N B K x l0 = some (r, xr) → tMet l yX7_of (ws_ yX7_of cX7_of 2 (some .int)) (frTe (d + 1)) (loTe (d + 1)) [.ref l0, .ref (wa w 17)] w A B x (some (.int r)) xr := by
  intro x l0 r xr hf
  refine t_start (cc := cX7_of) (own := RX7) (by decide +kernel) rfl (Nat.le_of_ble_eq_true rfl) rfl ?_
  intro p e s m args below meth c ls H locs C hmn hI hl
  have hx := C.1.1
  have hb := C.1.2.1
  have hown := C.1.2.2.2.1
  have hts := C.1.2.2.2.2.1
  have hE := C.2.2
  rw [fWo_of] at hf
  refine lv_aload_n hx hb dX7_of_0 rfl (lv_at hl 1 rfl) ?_
  refine lv_aload_n hx hb dX7_of_1 rfl (lv_at hl 0 rfl) ?_
  refine tgX7_7 C hI hf dX7_of_2 (fun v1 hf => ?_)
  refine ta17 C hI hf dX7_of_5 (fun v2 hf => ?_)
  exact t_iret C hI hf dX7_of_6
/-! TwelveChain$Two.of([I)I -/

def fTw_of (N : Nat) (B : Nat × Nat) (K : TS → Nat → Option (Int32 × TS)) (x : TS) (l0 : Nat) : Option (Int32 × TS) :=
  (dgR x l0 7 1).bind fun o1 =>
  o1.bind fun q2 =>
  b2 (K x q2) fun v3 x4 =>
  (dgR x4 l0 7 2).bind fun o5 =>
  o5.bind fun q6 =>
  b2 (K x4 q6) fun v7 x8 =>
  (dgI x8 l0 7 0).bind fun v9 =>
  if v9 = 38 then
    some (v3 &&& v7, x8)
  else if v9 = 39 then
    some (v3 ||| v7, x8)
  else if v9 = 40 then
    some (v3 ||| v7, x8)
  else if v9 = 41 then
    some (v3 ||| v7, x8)
  else if v9 = 42 then
    some (v3 * v7, x8)
  else if v9 = 43 then
    some (v3 + v7, x8)
  else if v9 = 44 then
    some (v3 ||| v7, x8)
  else if v9 = 45 then
    some (v3 - v7, x8)
  else if v9 = 46 then
    some (v3 ||| v7, x8)
  else if v9 = 47 then
    (dv v3 v7).bind fun v20 =>
    some (v20, x8)
  else if v9 = 48 then
    some (v3 ||| v7, x8)
  else if v9 = 49 then
    some (v3 ||| v7, x8)
  else if v9 = 50 then
    some (v3 ||| v7, x8)
  else if v9 = 51 then
    some (v3 ||| v7, x8)
  else if v9 = 52 then
    some (v3 ||| v7, x8)
  else if v9 = 53 then
    some (v3 ||| v7, x8)
  else if v9 = 54 then
    some (v3 ||| v7, x8)
  else if v9 = 55 then
    some (v3 ||| v7, x8)
  else if v9 = 56 then
    some (v3 ||| v7, x8)
  else if v9 = 57 then
    some (v3 ||| v7, x8)
  else if v9 = 58 then
    some (v3 ||| v7, x8)
  else if v9 = 59 then
    some (v3 ||| v7, x8)
  else if v9 = 60 then
    lt (if v7 ≤ v3 then 0 else 1 : Int32) fun v34 =>
    some (v34, x8)
  else if v9 = 61 then
    lt (if v3 = v7 then 1 else 0 : Int32) fun v36 =>
    some (v36, x8)
  else if v9 = 62 then
    lt (if v3 ≤ v7 then 0 else 1 : Int32) fun v38 =>
    some (v38, x8)
  else 
    some (v3 ||| v7, x8)
theorem tmTw_of (l : Launch) (N : Nat) {w : tO} {A : Nat → Prop} (B : Nat × Nat) {K : TS → Nat → Option (Int32 × TS)} {d : Nat} (hK : ofOK l w A B K (frTe d) (loTe d)) : ∀ (x : TS) (l0 : Nat) (r : Int32) (xr : TS), fTw_of N B K x l0 = some (r, xr) → tMet l yX8_of (ws_ yX8_of cX8_of 4 (some .int)) (frTe (d + 1)) (loTe (d + 1)) [.ref l0, .ref (wa w 17)] w A B x (some (.int r)) xr := by
  intro x l0 r xr hf
  refine t_start (cc := cX8_of) (own := RX8) (by decide +kernel) rfl (Nat.le_of_ble_eq_true rfl) rfl ?_
  intro p e s m args below meth c ls H locs C hmn hI hl
  have hx := C.1.1
  have hb := C.1.2.1
  have hown := C.1.2.2.2.1
  have hts := C.1.2.2.2.2.1
  have hE := C.2.2
  rw [fTw_of] at hf
  refine lv_aload_n hx hb dX8_of_0 rfl (lv_at hl 0 rfl) ?_
  refine tgX8_13 C hI hf dX8_of_1 (fun o1 hf => ?_)
  refine t_nn (g := F0 m 4 ls) hf (fun q2 _ hf => ?_)
  refine lv_aload_n hx hb dX8_of_4 rfl (lv_at hl 1 rfl) ?_
  refine t_callOf (rest := []) C hI hK hf q947 ⟨Nat.le_refl _, by simp only [loTe]; omega⟩ hl.1 (Nat.le_of_ble_eq_true rfl) dX8_of_5 (fun v3 x4 H locs hI hf => ?_)
  refine lv_istore_n (lv' := [(2, .int v3), (0, .ref l0), (1, .ref (wa w 17))]) hx hb dX8_of_8 rfl hl (by decide) rfl (fun ls hl => ?_)
  refine lv_aload_n hx hb dX8_of_9 rfl (lv_at hl 1 rfl) ?_
  refine tgX8_17 C hI hf dX8_of_10 (fun o5 hf => ?_)
  refine t_nn (g := F0 m 13 ls) hf (fun q6 _ hf => ?_)
  refine lv_aload_n hx hb dX8_of_13 rfl (lv_at hl 2 rfl) ?_
  refine t_callOf (rest := []) C hI hK hf q947 ⟨Nat.le_refl _, by simp only [loTe]; omega⟩ hl.1 (Nat.le_of_ble_eq_true rfl) dX8_of_14 (fun v7 x8 H locs hI hf => ?_)
  refine lv_istore_n (lv' := [(3, .int v7), (2, .int v3), (0, .ref l0), (1, .ref (wa w 17))]) hx hb dX8_of_17 rfl hl (by decide) rfl (fun ls hl => ?_)
  refine lv_aload_n hx hb dX8_of_18 rfl (lv_at hl 2 rfl) ?_
  refine tgX8_7 C hI hf dX8_of_19 (fun v9 hf => ?_)
  refine b_tIn (k := 38) (j := 0) (tgt := 185) hx hb hf dX8_of_22 (by decide +kernel) rfl (by decide) (fun hf => ?_) (fun h10 hf => ?_)
  · refine lv_iload_n hx hb dX8_of_185 rfl (lv_at hl 1 rfl) ?_
    refine lv_iload_n hx hb dX8_of_186 rfl (lv_at hl 0 rfl) ?_
    refine lv_iand hx hb dX8_of_187 ?_
    exact t_iret C hI hf dX8_of_188
  refine b_tIn (k := 39) (j := 1) (tgt := 189) hx hb hf dX8_of_22 (by decide +kernel) rfl (by decide) (fun hf => ?_) (fun h11 hf => ?_)
  · refine lv_iload_n hx hb dX8_of_189 rfl (lv_at hl 1 rfl) ?_
    refine lv_iload_n hx hb dX8_of_190 rfl (lv_at hl 0 rfl) ?_
    refine lv_ior hx hb dX8_of_191 ?_
    exact t_iret C hI hf dX8_of_192
  refine b_tIn (k := 40) (j := 2) (tgt := 189) hx hb hf dX8_of_22 (by decide +kernel) rfl (by decide) (fun hf => ?_) (fun h12 hf => ?_)
  · refine lv_iload_n hx hb dX8_of_189 rfl (lv_at hl 1 rfl) ?_
    refine lv_iload_n hx hb dX8_of_190 rfl (lv_at hl 0 rfl) ?_
    refine lv_ior hx hb dX8_of_191 ?_
    exact t_iret C hI hf dX8_of_192
  refine b_tIn (k := 41) (j := 3) (tgt := 189) hx hb hf dX8_of_22 (by decide +kernel) rfl (by decide) (fun hf => ?_) (fun h13 hf => ?_)
  · refine lv_iload_n hx hb dX8_of_189 rfl (lv_at hl 1 rfl) ?_
    refine lv_iload_n hx hb dX8_of_190 rfl (lv_at hl 0 rfl) ?_
    refine lv_ior hx hb dX8_of_191 ?_
    exact t_iret C hI hf dX8_of_192
  refine b_tIn (k := 42) (j := 4) (tgt := 144) hx hb hf dX8_of_22 (by decide +kernel) rfl (by decide) (fun hf => ?_) (fun h14 hf => ?_)
  · refine lv_iload_n hx hb dX8_of_144 rfl (lv_at hl 1 rfl) ?_
    refine lv_iload_n hx hb dX8_of_145 rfl (lv_at hl 0 rfl) ?_
    refine lv_imul hx hb dX8_of_146 ?_
    exact t_iret C hI hf dX8_of_147
  refine b_tIn (k := 43) (j := 5) (tgt := 136) hx hb hf dX8_of_22 (by decide +kernel) rfl (by decide) (fun hf => ?_) (fun h15 hf => ?_)
  · refine lv_iload_n hx hb dX8_of_136 rfl (lv_at hl 1 rfl) ?_
    refine lv_iload_n hx hb dX8_of_137 rfl (lv_at hl 0 rfl) ?_
    refine lv_iadd hx hb dX8_of_138 ?_
    exact t_iret C hI hf dX8_of_139
  refine b_tIn (k := 44) (j := 6) (tgt := 189) hx hb hf dX8_of_22 (by decide +kernel) rfl (by decide) (fun hf => ?_) (fun h16 hf => ?_)
  · refine lv_iload_n hx hb dX8_of_189 rfl (lv_at hl 1 rfl) ?_
    refine lv_iload_n hx hb dX8_of_190 rfl (lv_at hl 0 rfl) ?_
    refine lv_ior hx hb dX8_of_191 ?_
    exact t_iret C hI hf dX8_of_192
  refine b_tIn (k := 45) (j := 7) (tgt := 140) hx hb hf dX8_of_22 (by decide +kernel) rfl (by decide) (fun hf => ?_) (fun h17 hf => ?_)
  · refine lv_iload_n hx hb dX8_of_140 rfl (lv_at hl 1 rfl) ?_
    refine lv_iload_n hx hb dX8_of_141 rfl (lv_at hl 0 rfl) ?_
    refine lv_isub hx hb dX8_of_142 ?_
    exact t_iret C hI hf dX8_of_143
  refine b_tIn (k := 46) (j := 8) (tgt := 189) hx hb hf dX8_of_22 (by decide +kernel) rfl (by decide) (fun hf => ?_) (fun h18 hf => ?_)
  · refine lv_iload_n hx hb dX8_of_189 rfl (lv_at hl 1 rfl) ?_
    refine lv_iload_n hx hb dX8_of_190 rfl (lv_at hl 0 rfl) ?_
    refine lv_ior hx hb dX8_of_191 ?_
    exact t_iret C hI hf dX8_of_192
  refine b_tIn (k := 47) (j := 9) (tgt := 148) hx hb hf dX8_of_22 (by decide +kernel) rfl (by decide) (fun hf => ?_) (fun h19 hf => ?_)
  · refine lv_iload_n hx hb dX8_of_148 rfl (lv_at hl 1 rfl) ?_
    refine lv_iload_n hx hb dX8_of_149 rfl (lv_at hl 0 rfl) ?_
    refine b_idiv hx hb hf dX8_of_150 (fun v20 hf => ?_)
    exact t_iret C hI hf dX8_of_151
  refine b_tIn (k := 48) (j := 10) (tgt := 189) hx hb hf dX8_of_22 (by decide +kernel) rfl (by decide) (fun hf => ?_) (fun h21 hf => ?_)
  · refine lv_iload_n hx hb dX8_of_189 rfl (lv_at hl 1 rfl) ?_
    refine lv_iload_n hx hb dX8_of_190 rfl (lv_at hl 0 rfl) ?_
    refine lv_ior hx hb dX8_of_191 ?_
    exact t_iret C hI hf dX8_of_192
  refine b_tIn (k := 49) (j := 11) (tgt := 189) hx hb hf dX8_of_22 (by decide +kernel) rfl (by decide) (fun hf => ?_) (fun h22 hf => ?_)
  · refine lv_iload_n hx hb dX8_of_189 rfl (lv_at hl 1 rfl) ?_
    refine lv_iload_n hx hb dX8_of_190 rfl (lv_at hl 0 rfl) ?_
    refine lv_ior hx hb dX8_of_191 ?_
    exact t_iret C hI hf dX8_of_192
  refine b_tIn (k := 50) (j := 12) (tgt := 189) hx hb hf dX8_of_22 (by decide +kernel) rfl (by decide) (fun hf => ?_) (fun h23 hf => ?_)
  · refine lv_iload_n hx hb dX8_of_189 rfl (lv_at hl 1 rfl) ?_
    refine lv_iload_n hx hb dX8_of_190 rfl (lv_at hl 0 rfl) ?_
    refine lv_ior hx hb dX8_of_191 ?_
    exact t_iret C hI hf dX8_of_192
  refine b_tIn (k := 51) (j := 13) (tgt := 189) hx hb hf dX8_of_22 (by decide +kernel) rfl (by decide) (fun hf => ?_) (fun h24 hf => ?_)
  · refine lv_iload_n hx hb dX8_of_189 rfl (lv_at hl 1 rfl) ?_
    refine lv_iload_n hx hb dX8_of_190 rfl (lv_at hl 0 rfl) ?_
    refine lv_ior hx hb dX8_of_191 ?_
    exact t_iret C hI hf dX8_of_192
  refine b_tIn (k := 52) (j := 14) (tgt := 189) hx hb hf dX8_of_22 (by decide +kernel) rfl (by decide) (fun hf => ?_) (fun h25 hf => ?_)
  · refine lv_iload_n hx hb dX8_of_189 rfl (lv_at hl 1 rfl) ?_
    refine lv_iload_n hx hb dX8_of_190 rfl (lv_at hl 0 rfl) ?_
    refine lv_ior hx hb dX8_of_191 ?_
    exact t_iret C hI hf dX8_of_192
  refine b_tIn (k := 53) (j := 15) (tgt := 189) hx hb hf dX8_of_22 (by decide +kernel) rfl (by decide) (fun hf => ?_) (fun h26 hf => ?_)
  · refine lv_iload_n hx hb dX8_of_189 rfl (lv_at hl 1 rfl) ?_
    refine lv_iload_n hx hb dX8_of_190 rfl (lv_at hl 0 rfl) ?_
    refine lv_ior hx hb dX8_of_191 ?_
    exact t_iret C hI hf dX8_of_192
  refine b_tIn (k := 54) (j := 16) (tgt := 189) hx hb hf dX8_of_22 (by decide +kernel) rfl (by decide) (fun hf => ?_) (fun h27 hf => ?_)
  · refine lv_iload_n hx hb dX8_of_189 rfl (lv_at hl 1 rfl) ?_
    refine lv_iload_n hx hb dX8_of_190 rfl (lv_at hl 0 rfl) ?_
    refine lv_ior hx hb dX8_of_191 ?_
    exact t_iret C hI hf dX8_of_192
  refine b_tIn (k := 55) (j := 17) (tgt := 189) hx hb hf dX8_of_22 (by decide +kernel) rfl (by decide) (fun hf => ?_) (fun h28 hf => ?_)
  · refine lv_iload_n hx hb dX8_of_189 rfl (lv_at hl 1 rfl) ?_
    refine lv_iload_n hx hb dX8_of_190 rfl (lv_at hl 0 rfl) ?_
    refine lv_ior hx hb dX8_of_191 ?_
    exact t_iret C hI hf dX8_of_192
  refine b_tIn (k := 56) (j := 18) (tgt := 189) hx hb hf dX8_of_22 (by decide +kernel) rfl (by decide) (fun hf => ?_) (fun h29 hf => ?_)
  · refine lv_iload_n hx hb dX8_of_189 rfl (lv_at hl 1 rfl) ?_
    refine lv_iload_n hx hb dX8_of_190 rfl (lv_at hl 0 rfl) ?_
    refine lv_ior hx hb dX8_of_191 ?_
    exact t_iret C hI hf dX8_of_192
  refine b_tIn (k := 57) (j := 19) (tgt := 189) hx hb hf dX8_of_22 (by decide +kernel) rfl (by decide) (fun hf => ?_) (fun h30 hf => ?_)
  · refine lv_iload_n hx hb dX8_of_189 rfl (lv_at hl 1 rfl) ?_
    refine lv_iload_n hx hb dX8_of_190 rfl (lv_at hl 0 rfl) ?_
    refine lv_ior hx hb dX8_of_191 ?_
    exact t_iret C hI hf dX8_of_192
  refine b_tIn (k := 58) (j := 20) (tgt := 189) hx hb hf dX8_of_22 (by decide +kernel) rfl (by decide) (fun hf => ?_) (fun h31 hf => ?_)
  · refine lv_iload_n hx hb dX8_of_189 rfl (lv_at hl 1 rfl) ?_
    refine lv_iload_n hx hb dX8_of_190 rfl (lv_at hl 0 rfl) ?_
    refine lv_ior hx hb dX8_of_191 ?_
    exact t_iret C hI hf dX8_of_192
  refine b_tIn (k := 59) (j := 21) (tgt := 189) hx hb hf dX8_of_22 (by decide +kernel) rfl (by decide) (fun hf => ?_) (fun h32 hf => ?_)
  · refine lv_iload_n hx hb dX8_of_189 rfl (lv_at hl 1 rfl) ?_
    refine lv_iload_n hx hb dX8_of_190 rfl (lv_at hl 0 rfl) ?_
    refine lv_ior hx hb dX8_of_191 ?_
    exact t_iret C hI hf dX8_of_192
  refine b_tIn (k := 60) (j := 22) (tgt := 152) hx hb hf dX8_of_22 (by decide +kernel) rfl (by decide) (fun hf => ?_) (fun h33 hf => ?_)
  · refine lv_iload_n hx hb dX8_of_152 rfl (lv_at hl 1 rfl) ?_
    refine lv_iload_n hx hb dX8_of_153 rfl (lv_at hl 0 rfl) ?_
    suffices hJ : ∀ v34 : Int32, (v34 = (if v7 ≤ v3 then 0 else 1 : Int32)) → W p l e (tRm B (frTe (d + 1)) (loTe (d + 1)) s.heap.size (SL s.heap)) s m args below meth c H locs (tZ x8 - s.heap.size) (tY x8 - SL s.heap) (MQ below (tQ w A B (some (.int r)) xr) args s (B.1 - s.heap.size) (B.2 - SL s.heap) A) (F0 m 162 ls [.int v34]) by
      refine lv_icmp_ge (tgt := 161) hx hb dX8_of_154 (by decide) (fun hc => ?_) (fun hc => ?_)
      · refine lv_iconst (v := 0) hx hb dX8_of_161 (by decide) ?_
        exact hJ _ (if_pos hc).symm
      · refine lv_iconst (v := 1) hx hb dX8_of_157 (by decide) ?_
        refine lv_goto (tgt := 162) hx hb dX8_of_158 (by decide) ?_
        exact hJ _ (if_neg hc).symm
    intro v34 hv
    have hf := lt_of hv hf
    exact t_iret C hI hf dX8_of_162
  refine b_tIn (k := 61) (j := 23) (tgt := 163) hx hb hf dX8_of_22 (by decide +kernel) rfl (by decide) (fun hf => ?_) (fun h35 hf => ?_)
  · refine lv_iload_n hx hb dX8_of_163 rfl (lv_at hl 1 rfl) ?_
    refine lv_iload_n hx hb dX8_of_164 rfl (lv_at hl 0 rfl) ?_
    suffices hJ : ∀ v36 : Int32, (v36 = (if v3 = v7 then 1 else 0 : Int32)) → W p l e (tRm B (frTe (d + 1)) (loTe (d + 1)) s.heap.size (SL s.heap)) s m args below meth c H locs (tZ x8 - s.heap.size) (tY x8 - SL s.heap) (MQ below (tQ w A B (some (.int r)) xr) args s (B.1 - s.heap.size) (B.2 - SL s.heap) A) (F0 m 173 ls [.int v36]) by
      refine lv_icmp_ne (tgt := 172) hx hb dX8_of_165 (by decide) (fun hc => ?_) (fun hc => ?_)
      · refine lv_iconst (v := 0) hx hb dX8_of_172 (by decide) ?_
        exact hJ _ (if_neg hc).symm
      · refine lv_iconst (v := 1) hx hb dX8_of_168 (by decide) ?_
        refine lv_goto (tgt := 173) hx hb dX8_of_169 (by decide) ?_
        exact hJ _ (if_pos hc).symm
    intro v36 hv
    have hf := lt_of hv hf
    exact t_iret C hI hf dX8_of_173
  refine b_tIn (k := 62) (j := 24) (tgt := 174) hx hb hf dX8_of_22 (by decide +kernel) rfl (by decide) (fun hf => ?_) (fun h37 hf => ?_)
  · refine lv_iload_n hx hb dX8_of_174 rfl (lv_at hl 1 rfl) ?_
    refine lv_iload_n hx hb dX8_of_175 rfl (lv_at hl 0 rfl) ?_
    suffices hJ : ∀ v38 : Int32, (v38 = (if v3 ≤ v7 then 0 else 1 : Int32)) → W p l e (tRm B (frTe (d + 1)) (loTe (d + 1)) s.heap.size (SL s.heap)) s m args below meth c H locs (tZ x8 - s.heap.size) (tY x8 - SL s.heap) (MQ below (tQ w A B (some (.int r)) xr) args s (B.1 - s.heap.size) (B.2 - SL s.heap) A) (F0 m 184 ls [.int v38]) by
      refine lv_icmp_le (tgt := 183) hx hb dX8_of_176 (by decide) (fun hc => ?_) (fun hc => ?_)
      · refine lv_iconst (v := 0) hx hb dX8_of_183 (by decide) ?_
        exact hJ _ (if_pos hc).symm
      · refine lv_iconst (v := 1) hx hb dX8_of_179 (by decide) ?_
        refine lv_goto (tgt := 184) hx hb dX8_of_180 (by decide) ?_
        exact hJ _ (if_neg hc).symm
    intro v38 hv
    have hf := lt_of hv hf
    exact t_iret C hI hf dX8_of_184
  have h10 : v9.toInt ≠ 38 := sw_ne h10
  have h11 : v9.toInt ≠ 39 := sw_ne h11
  have h12 : v9.toInt ≠ 40 := sw_ne h12
  have h13 : v9.toInt ≠ 41 := sw_ne h13
  have h14 : v9.toInt ≠ 42 := sw_ne h14
  have h15 : v9.toInt ≠ 43 := sw_ne h15
  have h16 : v9.toInt ≠ 44 := sw_ne h16
  have h17 : v9.toInt ≠ 45 := sw_ne h17
  have h18 : v9.toInt ≠ 46 := sw_ne h18
  have h19 : v9.toInt ≠ 47 := sw_ne h19
  have h21 : v9.toInt ≠ 48 := sw_ne h21
  have h22 : v9.toInt ≠ 49 := sw_ne h22
  have h23 : v9.toInt ≠ 50 := sw_ne h23
  have h24 : v9.toInt ≠ 51 := sw_ne h24
  have h25 : v9.toInt ≠ 52 := sw_ne h25
  have h26 : v9.toInt ≠ 53 := sw_ne h26
  have h27 : v9.toInt ≠ 54 := sw_ne h27
  have h28 : v9.toInt ≠ 55 := sw_ne h28
  have h29 : v9.toInt ≠ 56 := sw_ne h29
  have h30 : v9.toInt ≠ 57 := sw_ne h30
  have h31 : v9.toInt ≠ 58 := sw_ne h31
  have h32 : v9.toInt ≠ 59 := sw_ne h32
  have h33 : v9.toInt ≠ 60 := sw_ne h33
  have h35 : v9.toInt ≠ 61 := sw_ne h35
  have h37 : v9.toInt ≠ 62 := sw_ne h37
  refine lv_tableOut (tgt := 189) hx hb dX8_of_22 (by omega) (by decide) ?_
  refine lv_iload_n hx hb dX8_of_189 rfl (lv_at hl 1 rfl) ?_
  refine lv_iload_n hx hb dX8_of_190 rfl (lv_at hl 0 rfl) ?_
  refine lv_ior hx hb dX8_of_191 ?_
  exact t_iret C hI hf dX8_of_192
/-! TwelveChain$Not.of([I)I -/

def fNo_of (N : Nat) (B : Nat × Nat) (K : TS → Nat → Option (Int32 × TS)) (x : TS) (l0 : Nat) : Option (Int32 × TS) :=
  (dgR x l0 8 0).bind fun o1 =>
  o1.bind fun q2 =>
  b2 (K x q2) fun v3 x4 =>
  some (1 - v3, x4)
theorem tmNo_of (l : Launch) (N : Nat) {w : tO} {A : Nat → Prop} (B : Nat × Nat) {K : TS → Nat → Option (Int32 × TS)} {d : Nat} (hK : ofOK l w A B K (frTe d) (loTe d)) : ∀ (x : TS) (l0 : Nat) (r : Int32) (xr : TS), fNo_of N B K x l0 = some (r, xr) → tMet l yX9_of (ws_ yX9_of cX9_of 2 (some .int)) (frTe (d + 1)) (loTe (d + 1)) [.ref l0, .ref (wa w 17)] w A B x (some (.int r)) xr := by
  intro x l0 r xr hf
  refine t_start (cc := cX9_of) (own := RX9) (by decide +kernel) rfl (Nat.le_of_ble_eq_true rfl) rfl ?_
  intro p e s m args below meth c ls H locs C hmn hI hl
  have hx := C.1.1
  have hb := C.1.2.1
  have hown := C.1.2.2.2.1
  have hts := C.1.2.2.2.2.1
  have hE := C.2.2
  rw [fNo_of] at hf
  refine lv_iconst (v := 1) hx hb dX9_of_0 (by decide) ?_
  refine lv_aload_n hx hb dX9_of_1 rfl (lv_at hl 0 rfl) ?_
  refine tgX9_7 C hI hf dX9_of_2 (fun o1 hf => ?_)
  refine t_nn (g := F0 m 5 ls) hf (fun q2 _ hf => ?_)
  refine lv_aload_n hx hb dX9_of_5 rfl (lv_at hl 1 rfl) ?_
  refine t_callOf (rest := [.int 1]) C hI hK hf q942 ⟨Nat.le_refl _, by simp only [loTe]; omega⟩ hl.1 (Nat.le_of_ble_eq_true rfl) dX9_of_6 (fun v3 x4 H locs hI hf => ?_)
  refine lv_isub hx hb dX9_of_9 ?_
  exact t_iret C hI hf dX9_of_10
def fTe_of (N : Nat) (B : Nat × Nat) : Nat → TS → Nat → Option (Int32 × TS)
  | 0, _, _ => none
  | d + 1, x, q => match tD x q with
    | some (.inl (5, _)) => fNu_of N B (fTe_of N B d) x q
    | some (.inl (6, _)) => fWo_of N B (fTe_of N B d) x q
    | some (.inl (7, _)) => fTw_of N B (fTe_of N B d) x q
    | some (.inl (8, _)) => fNo_of N B (fTe_of N B d) x q
    | _ => none
theorem of_ok (l : Launch) (N : Nat) {w : tO} {A : Nat → Prop} (B : Nat × Nat) : ∀ d : Nat, ofOK l w A B (fTe_of N B d) (frTe d) (loTe d) := by
  intro d
  induction d with
  | zero => intro x q v x1 h; cases h
  | succ d ih =>
    intro x q v x1 h
    rw [fTe_of] at h
    split at h
    · rename_i fs he; exact ⟨5, fs, he, Or.inl ⟨rfl, tmNu_of l N B ih _ _ _ _ h⟩⟩
    · rename_i fs he; exact ⟨6, fs, he, Or.inr (Or.inl ⟨rfl, tmWo_of l N B ih _ _ _ _ h⟩)⟩
    · rename_i fs he; exact ⟨7, fs, he, Or.inr (Or.inr (Or.inl ⟨rfl, tmTw_of l N B ih _ _ _ _ h⟩))⟩
    · rename_i fs he; exact ⟨8, fs, he, Or.inr (Or.inr (Or.inr ⟨rfl, tmNo_of l N B ih _ _ _ _ h⟩))⟩
    · cases h
