set_option maxRecDepth 100000
variable {p : Program} {l : Launch} {e : Env} {R : Room} {s : State} {m : MethodId} {args : Array Value} {below : List Frame} {meth : Method} {c : Code} {H : Heap} {locs : List Loc} {Q : State → Prop}
variable {w : tO} {A : Nat → Prop}
/-! TwelveChain.tells(III)I -/
abbrev frT_tells : Nat := 403
abbrev loT_tells : Nat := 12083
def fT_tells_b101 (N : Nat) (B : Nat × Nat) (x : TS) (l3 : Int32) (s0 : Int32) : Option (Int32 × TS) :=
  (fT_held N s0 0 l3).bind fun v1 =>
  some (v1, x)
theorem w_fT_tells_b101 {N : Nat} {B : Nat × Nat} {r : Int32} {xr : TS} (C : tCx w A p s m args meth c cX0_tells 5 RX0 (some .int)) : ∀ (x : TS) (l3 : Int32) (s0 : Int32) (H : Heap) (locs : List Loc) (ls : Array Slot), tI w A B x s.heap H locs → lv_has ls 5 [(3, .int l3)] → fT_tells_b101 N B x l3 s0 = some (r, xr) → W p l e (tRm B frT_tells loT_tells s.heap.size (SL s.heap)) s m args below meth c H locs (tZ x - s.heap.size) (tY x - SL s.heap) (MQ below (tQ w A B (some (.int r)) xr) args s (B.1 - s.heap.size) (B.2 - SL s.heap) A) (F0 m 101 ls [.int s0]) := by
  have hx := C.1.1
  have hb := C.1.2.1
  have hown := C.1.2.2.2.1
  have hts := C.1.2.2.2.2.1
  have hE := C.2.2
  intro x l3 s0 H locs ls hI hl hf
  rw [fT_tells_b101] at hf
  refine lv_iconst (v := 0) hx hb dX0_tells_101 (by decide) ?_
  refine lv_iload_n hx hb dX0_tells_102 rfl (lv_at hl 0 rfl) ?_
  refine g_calliS (rest := []) C.1 hf (smT_held l N _ _ _) cqT_T_held ⟨rfl, rfl⟩ ⟨Nat.le_of_ble_eq_true rfl, Nat.le_of_ble_eq_true rfl⟩ rfl hl.1 rfl (Nat.le_of_ble_eq_true rfl) (t_room hI) dX0_tells_103 (fun v1 hf => ?_)
  exact t_iret C hI hf dX0_tells_106
def fT_tells_b68 (N : Nat) (B : Nat × Nat) (x : TS) (l2 : Int32) (l3 : Int32) (l4 : Int32) : Option (Int32 × TS) :=
  (tR x 16).bind fun q1 =>
  (dgI x q1 2 3).bind fun v2 =>
  if l4 = v2 then
    fT_tells_b101 N B x l3 l2
  else
    (tR x 16).bind fun q3 =>
    (dgR x q3 2 1).bind fun o4 =>
    o4.bind fun q5 =>
    (dRg x q5 4 l4).bind fun o6 =>
    o6.bind fun q7 =>
    b2 (fTe_of N B 402 x q7) fun v8 x9 =>
    fT_tells_b101 N B x9 l3 v8
theorem w_fT_tells_b68 {N : Nat} {B : Nat × Nat} {r : Int32} {xr : TS} (C : tCx w A p s m args meth c cX0_tells 5 RX0 (some .int)) : ∀ (x : TS) (l2 : Int32) (l3 : Int32) (l4 : Int32) (H : Heap) (locs : List Loc) (ls : Array Slot), tI w A B x s.heap H locs → lv_has ls 5 [(0, .ref (wa w 37)), (2, .int l2), (3, .int l3), (4, .int l4)] → fT_tells_b68 N B x l2 l3 l4 = some (r, xr) → W p l e (tRm B frT_tells loT_tells s.heap.size (SL s.heap)) s m args below meth c H locs (tZ x - s.heap.size) (tY x - SL s.heap) (MQ below (tQ w A B (some (.int r)) xr) args s (B.1 - s.heap.size) (B.2 - SL s.heap) A) (F0 m 68 ls []) := by
  have hx := C.1.1
  have hb := C.1.2.1
  have hown := C.1.2.2.2.1
  have hts := C.1.2.2.2.2.1
  have hE := C.2.2
  intro x l2 l3 l4 H locs ls hI hl hf
  rw [fT_tells_b68] at hf
  refine lv_iload hx hb dX0_tells_68 (lv_at hl 3 rfl) ?_
  refine lv_aload_n hx hb dX0_tells_70 rfl (lv_at hl 0 rfl) ?_
  refine tgX0_121 C hI dX0_tells_71 ?_
  refine t_nn (g := F0 m 74 ls) hf (fun q1 _ hf => ?_)
  refine tgX0_316 C hI hf dX0_tells_74 (fun v2 hf => ?_)
  refine b_icne (tgt := 84) hx hb hf dX0_tells_77 (by decide) (fun hf => ?_) (fun hf => ?_)
  · refine lv_aload_n hx hb dX0_tells_84 rfl (lv_at hl 0 rfl) ?_
    refine tgX0_121 C hI dX0_tells_85 ?_
    refine t_nn (g := F0 m 88 ls) hf (fun q3 _ hf => ?_)
    refine tgX0_325 C hI hf dX0_tells_88 (fun o4 hf => ?_)
    refine t_nn (g := F0 m 91 ls) hf (fun q5 _ hf => ?_)
    refine lv_iload hx hb dX0_tells_91 (lv_at hl 3 rfl) ?_
    refine t_daldR (code := 4) C hI hf rfl dX0_tells_93 (fun o6 hf => ?_)
    refine t_nn (g := F0 m 94 ls) hf (fun q7 _ hf => ?_)
    refine lv_aload_n hx hb dX0_tells_94 rfl (lv_at hl 0 rfl) ?_
    refine tgX0_125 C hI dX0_tells_95 ?_
    refine t_callOf (rest := []) C hI (of_ok l N B 402) hf q936 ⟨Nat.le_of_ble_eq_true rfl, Nat.le_of_ble_eq_true rfl⟩ hl.1 (Nat.le_of_ble_eq_true rfl) dX0_tells_98 (fun v8 x9 H locs hI hf => ?_)
    exact w_fT_tells_b101 C x9 l3 v8 _ _ _ hI (lv_sub hl [2] rfl) hf
  · refine lv_iload_n hx hb dX0_tells_80 rfl (lv_at hl 1 rfl) ?_
    refine lv_goto (tgt := 101) hx hb dX0_tells_81 (by decide) ?_
    exact w_fT_tells_b101 C x l3 l2 _ _ _ hI (lv_sub hl [2] rfl) hf
def fT_tells_b3 (N : Nat) (B : Nat × Nat) : Nat → TS → Int32 → Int32 → Int32 → Int32 → Option (Int32 × TS)
  | 0, _, _, _, _, _ => none
  | n + 1, x, l1, l2, l3, l4 =>
  (tR x 16).bind fun q1 =>
  (dgI x q1 2 3).bind fun v2 =>
  if v2 ≤ l4 then
    fT_tells_b68 N B x l2 l3 l4
  else
    (tR x 16).bind fun q3 =>
    (dgR x q3 2 0).bind fun o4 =>
    o4.bind fun q5 =>
    (dIg x q5 l4).bind fun v6 =>
    if v6 = l1 then
      (tR x 16).bind fun q7 =>
      (dgR x q7 2 2).bind fun o8 =>
      o8.bind fun q9 =>
      (dRg x q9 4 l4).bind fun o10 =>
      if o10.isNone = true then
        fT_tells_b68 N B x l2 l3 l4
      else
        (tR x 16).bind fun q11 =>
        (dgR x q11 2 2).bind fun o12 =>
        o12.bind fun q13 =>
        (dRg x q13 4 l4).bind fun o14 =>
        o14.bind fun q15 =>
        b2 (fTe_of N B 402 x q15) fun v16 x17 =>
        if v16 = 0 then
          fT_tells_b3 N B n x17 l1 l2 l3 (l4 + 1)
        else
          fT_tells_b68 N B x17 l2 l3 l4
    else
      fT_tells_b3 N B n x l1 l2 l3 (l4 + 1)
theorem w_fT_tells_b3 {N : Nat} {B : Nat × Nat} {r : Int32} {xr : TS} (C : tCx w A p s m args meth c cX0_tells 5 RX0 (some .int)) : ∀ (n : Nat) (x : TS) (l1 : Int32) (l2 : Int32) (l3 : Int32) (l4 : Int32) (H : Heap) (locs : List Loc) (ls : Array Slot), tI w A B x s.heap H locs → lv_has ls 5 [(0, .ref (wa w 37)), (1, .int l1), (2, .int l2), (3, .int l3), (4, .int l4)] → fT_tells_b3 N B n x l1 l2 l3 l4 = some (r, xr) → W p l e (tRm B frT_tells loT_tells s.heap.size (SL s.heap)) s m args below meth c H locs (tZ x - s.heap.size) (tY x - SL s.heap) (MQ below (tQ w A B (some (.int r)) xr) args s (B.1 - s.heap.size) (B.2 - SL s.heap) A) (F0 m 3 ls []) := by
  have hx := C.1.1
  have hb := C.1.2.1
  have hown := C.1.2.2.2.1
  have hts := C.1.2.2.2.2.1
  have hE := C.2.2
  intro n
  induction n with
  | zero => intro x l1 l2 l3 l4 H locs ls hI hl hf; rw [fT_tells_b3] at hf; cases hf
  | succ n ih =>
  intro x l1 l2 l3 l4 H locs ls hI hl hf
  rw [fT_tells_b3] at hf
  refine lv_iload hx hb dX0_tells_3 (lv_at hl 4 rfl) ?_
  refine lv_aload_n hx hb dX0_tells_5 rfl (lv_at hl 0 rfl) ?_
  refine tgX0_121 C hI dX0_tells_6 ?_
  refine t_nn (g := F0 m 9 ls) hf (fun q1 _ hf => ?_)
  refine tgX0_316 C hI hf dX0_tells_9 (fun v2 hf => ?_)
  refine b_icge (tgt := 68) hx hb hf dX0_tells_12 (by decide) (fun hf => ?_) (fun hf => ?_)
  · exact w_fT_tells_b68 C x l2 l3 l4 _ _ _ hI (lv_sub hl [0, 2, 3, 4] rfl) hf
  · refine lv_aload_n hx hb dX0_tells_15 rfl (lv_at hl 0 rfl) ?_
    refine tgX0_121 C hI dX0_tells_16 ?_
    refine t_nn (g := F0 m 19 ls) hf (fun q3 _ hf => ?_)
    refine tgX0_322 C hI hf dX0_tells_19 (fun o4 hf => ?_)
    refine t_nn (g := F0 m 22 ls) hf (fun q5 _ hf => ?_)
    refine lv_iload hx hb dX0_tells_22 (lv_at hl 4 rfl) ?_
    refine t_daldI C hI hf dX0_tells_24 (fun v6 hf => ?_)
    refine lv_iload_n hx hb dX0_tells_25 rfl (lv_at hl 1 rfl) ?_
    refine b_icne (tgt := 62) hx hb hf dX0_tells_26 (by decide) (fun hf => ?_) (fun hf => ?_)
    · refine lv_iinc (v := l4 + 1) (lv' := [(4, .int (l4 + 1)), (0, .ref (wa w 37)), (1, .int l1), (2, .int l2), (3, .int l3)]) hx hb dX0_tells_62 hl (k := 4) rfl rfl (by decide) rfl (fun ls hl => ?_)
      refine lv_goto (tgt := 3) hx hb dX0_tells_65 (by decide) ?_
      exact ih x l1 l2 l3 (l4 + 1) _ _ _ hI (lv_sub hl [1, 2, 3, 4, 0] rfl) hf
    · refine lv_aload_n hx hb dX0_tells_29 rfl (lv_at hl 0 rfl) ?_
      refine tgX0_121 C hI dX0_tells_30 ?_
      refine t_nn (g := F0 m 33 ls) hf (fun q7 _ hf => ?_)
      refine tgX0_328 C hI hf dX0_tells_33 (fun o8 hf => ?_)
      refine t_nn (g := F0 m 36 ls) hf (fun q9 _ hf => ?_)
      refine lv_iload hx hb dX0_tells_36 (lv_at hl 4 rfl) ?_
      refine t_daldR (code := 4) C hI hf rfl dX0_tells_38 (fun o10 hf => ?_)
      refine b_ifnull (tgt := 68) hx hb hf dX0_tells_39 (by decide) (fun hf => ?_) (fun hf => ?_)
      · exact w_fT_tells_b68 C x l2 l3 l4 _ _ _ hI (lv_sub hl [0, 2, 3, 4] rfl) hf
      · refine lv_aload_n hx hb dX0_tells_42 rfl (lv_at hl 0 rfl) ?_
        refine tgX0_121 C hI dX0_tells_43 ?_
        refine t_nn (g := F0 m 46 ls) hf (fun q11 _ hf => ?_)
        refine tgX0_328 C hI hf dX0_tells_46 (fun o12 hf => ?_)
        refine t_nn (g := F0 m 49 ls) hf (fun q13 _ hf => ?_)
        refine lv_iload hx hb dX0_tells_49 (lv_at hl 4 rfl) ?_
        refine t_daldR (code := 4) C hI hf rfl dX0_tells_51 (fun o14 hf => ?_)
        refine t_nn (g := F0 m 52 ls) hf (fun q15 _ hf => ?_)
        refine lv_aload_n hx hb dX0_tells_52 rfl (lv_at hl 0 rfl) ?_
        refine tgX0_125 C hI dX0_tells_53 ?_
        refine t_callOf (rest := []) C hI (of_ok l N B 402) hf q936 ⟨Nat.le_of_ble_eq_true rfl, Nat.le_of_ble_eq_true rfl⟩ hl.1 (Nat.le_of_ble_eq_true rfl) dX0_tells_56 (fun v16 x17 H locs hI hf => ?_)
        refine b_ifne (tgt := 68) hx hb hf dX0_tells_59 (by decide) (fun hf => ?_) (fun hf => ?_)
        · exact w_fT_tells_b68 C x17 l2 l3 l4 _ _ _ hI (lv_sub hl [0, 2, 3, 4] rfl) hf
        · refine lv_iinc (v := l4 + 1) (lv' := [(4, .int (l4 + 1)), (0, .ref (wa w 37)), (1, .int l1), (2, .int l2), (3, .int l3)]) hx hb dX0_tells_62 hl (k := 4) rfl rfl (by decide) rfl (fun ls hl => ?_)
          refine lv_goto (tgt := 3) hx hb dX0_tells_65 (by decide) ?_
          exact ih x17 l1 l2 l3 (l4 + 1) _ _ _ hI (lv_sub hl [1, 2, 3, 4, 0] rfl) hf
def fT_tells (N : Nat) (B : Nat × Nat) (x : TS) (l1 : Int32) (l2 : Int32) (l3 : Int32) : Option (Int32 × TS) :=
  fT_tells_b3 N B N x l1 l2 l3 0
theorem tmT_tells (l : Launch) (N : Nat) {w : tO} {A : Nat → Prop} (B : Nat × Nat) : ∀ (x : TS) (l1 : Int32) (l2 : Int32) (l3 : Int32) (r : Int32) (xr : TS), fT_tells N B x l1 l2 l3 = some (r, xr) → tMet l yX0_tells (ws_ yX0_tells cX0_tells 5 (some .int)) frT_tells loT_tells [.ref (wa w 37), .int l1, .int l2, .int l3] w A B x (some (.int r)) xr := by
  intro x l1 l2 l3 r xr hf
  refine t_start (cc := cX0_tells) (own := RX0) (by decide +kernel) rfl (Nat.le_of_ble_eq_true rfl) rfl ?_
  intro p e s m args below meth c ls H locs C hmn hI hl
  have hx := C.1.1
  have hb := C.1.2.1
  have hown := C.1.2.2.2.1
  have hts := C.1.2.2.2.2.1
  have hE := C.2.2
  rw [fT_tells] at hf
  refine lv_iconst (v := 0) hx hb dX0_tells_0 (by decide) ?_
  refine lv_istore (lv' := [(4, .int 0), (0, .ref (wa w 37)), (1, .int l1), (2, .int l2), (3, .int l3)]) hx hb dX0_tells_1 hl (by decide) rfl (fun ls hl => ?_)
  exact w_fT_tells_b3 C N x l1 l2 l3 0 _ _ _ hI (lv_sub hl [1, 2, 3, 4, 0] rfl) hf
/-! TwelveChain$Chain.giveOf(I)I -/
abbrev frC_giveOf : Nat := 404
abbrev loC_giveOf : Nat := 12107
def fC_giveOf (N : Nat) (B : Nat × Nat) (x : TS) (l0 : cIx) (l1 : Int32) : Option (Int32 × TS) :=
  (fC_asks N B x l0 l1).bind fun x1 =>
  (rd 12 (tC x1 l0 2) l1).bind fun v2 =>
  (fJm_floorDiv N v2 4).bind fun v3 =>
  b2 (fT_tells N B x1 2 v3 999) fun v5 x4 =>
  some (v5, x4)
theorem tmC_giveOf (l : Launch) (N : Nat) {w : tO} {A : Nat → Prop} (B : Nat × Nat) {l0 : Nat} (hi_l0 : l0 < wn w) : ∀ (x : TS) (l1 : Int32) (r : Int32) (xr : TS), fC_giveOf N B x l0 l1 = some (r, xr) → tMet l yX2_giveOf (ws_ yX2_giveOf cX2_giveOf 2 (some .int)) frC_giveOf loC_giveOf [.ref (wG w l0 5), .int l1] w A B x (some (.int r)) xr := by
  intro x l1 r xr hf
  refine t_start (cc := cX2_giveOf) (own := RX2) (by decide +kernel) rfl (Nat.le_of_ble_eq_true rfl) rfl ?_
  intro p e s m args below meth c ls H locs C hmn hI hl
  have hx := C.1.1
  have hb := C.1.2.1
  have hown := C.1.2.2.2.1
  have hts := C.1.2.2.2.2.1
  have hE := C.2.2
  rw [fC_giveOf] at hf
  refine lv_aload_n hx hb dX2_giveOf_0 rfl (lv_at hl 0 rfl) ?_
  refine lv_iload_n hx hb dX2_giveOf_1 rfl (lv_at hl 1 rfl) ?_
  refine t_cVv (rest := []) C hI hf (tmC_asks l N B hi_l0 _ _) (rv_chain C hI hi_l0) cqX2_C_asks ⟨Nat.le_of_ble_eq_true rfl, Nat.le_of_ble_eq_true rfl⟩ rfl hl.1 rfl (Nat.le_of_ble_eq_true rfl) dX2_giveOf_2 (fun x1 H locs hI hf => ?_)
  refine lv_aload_n hx hb dX2_giveOf_5 rfl (lv_at hl 0 rfl) ?_
  refine tgX2_3 C hI hi_l0 dX2_giveOf_6 ?_
  refine lv_iconst (v := 2) hx hb dX2_giveOf_9 (by decide) ?_
  refine lv_aload_n hx hb dX2_giveOf_10 rfl (lv_at hl 0 rfl) ?_
  refine tgX2_22 C hI hi_l0 dX2_giveOf_11 ?_
  refine lv_iload_n hx hb dX2_giveOf_14 rfl (lv_at hl 1 rfl) ?_
  refine t_cald C hI hi_l0 (by decide) hf dX2_giveOf_15 (fun v2 hf => ?_)
  refine lv_iconst (v := 4) hx hb dX2_giveOf_16 (by decide) ?_
  refine g_calliS (rest := [.int 2, .ref (wa w 37)]) C.1 hf (smJm_floorDiv l N _ _) cqC_Jm_floorDiv ⟨rfl, rfl⟩ ⟨Nat.le_of_ble_eq_true rfl, Nat.le_of_ble_eq_true rfl⟩ rfl hl.1 rfl (Nat.le_of_ble_eq_true rfl) (t_room hI) dX2_giveOf_17 (fun v3 hf => ?_)
  refine lv_sipush (v := 999) hx hb dX2_giveOf_20 (by decide) ?_
  refine t_cVNi (rest := []) C hI hf (tmT_tells l N B _ _ _ _) (rv_main C hI) cn_T_tells ⟨q934, qs31⟩ (List.mem_of_getElem? (i := 7) rfl) ⟨Nat.le_of_ble_eq_true rfl, Nat.le_of_ble_eq_true rfl⟩ rfl hl.1 rfl (Nat.le_of_ble_eq_true rfl) dX2_giveOf_23 (fun v5 x4 H locs hI hf => ?_)
  exact t_iret C hI hf dX2_giveOf_26
/-! TwelveChain$Chain.gives(II)I -/
abbrev frC_gives : Nat := 405
abbrev loC_gives : Nat := 12128
def fC_gives (N : Nat) (B : Nat × Nat) (x : TS) (l0 : cIx) (l1 : Int32) (l2 : Int32) : Option (Int32 × TS) :=
  b2 (fC_giveOf N B x l0 l1) fun v2 x1 =>
  (fJm_min N l2 v2).bind fun v3 =>
  (rd 12 (tC x1 l0 0) l1).bind fun v4 =>
  (fJm_min N v3 (v4 - 1)).bind fun v5 =>
  (rd 12 (tC x1 l0 0) l1).bind fun v6 =>
  (wrC x1 l0 0 l1 (v6 - v5)).bind fun x7 =>
  (rd 12 (tC x7 l0 2) l1).bind fun v8 =>
  (fJm_max N (-999) (v8 - v5)).bind fun v9 =>
  (wrC x7 l0 2 l1 v9).bind fun x10 =>
  (fC_notes N B x10 l0 0 l1 v5).bind fun x11 =>
  some (v5, x11)
theorem tmC_gives (l : Launch) (N : Nat) {w : tO} {A : Nat → Prop} (B : Nat × Nat) {l0 : Nat} (hi_l0 : l0 < wn w) : ∀ (x : TS) (l1 : Int32) (l2 : Int32) (r : Int32) (xr : TS), fC_gives N B x l0 l1 l2 = some (r, xr) → tMet l yX2_gives (ws_ yX2_gives cX2_gives 4 (some .int)) frC_gives loC_gives [.ref (wG w l0 5), .int l1, .int l2] w A B x (some (.int r)) xr := by
  intro x l1 l2 r xr hf
  refine t_start (cc := cX2_gives) (own := RX2) (by decide +kernel) rfl (Nat.le_of_ble_eq_true rfl) rfl ?_
  intro p e s m args below meth c ls H locs C hmn hI hl
  have hx := C.1.1
  have hb := C.1.2.1
  have hown := C.1.2.2.2.1
  have hts := C.1.2.2.2.2.1
  have hE := C.2.2
  rw [fC_gives] at hf
  refine lv_iload_n hx hb dX2_gives_0 rfl (lv_at hl 2 rfl) ?_
  refine lv_aload_n hx hb dX2_gives_1 rfl (lv_at hl 0 rfl) ?_
  refine lv_iload_n hx hb dX2_gives_2 rfl (lv_at hl 1 rfl) ?_
  refine t_cVi (rest := [.int l2]) C hI hf (tmC_giveOf l N B hi_l0 _ _) (rv_chain C hI hi_l0) cqX2_C_giveOf ⟨Nat.le_of_ble_eq_true rfl, Nat.le_of_ble_eq_true rfl⟩ rfl hl.1 rfl (Nat.le_of_ble_eq_true rfl) dX2_gives_3 (fun v2 x1 H locs hI hf => ?_)
  refine g_calliS (rest := []) C.1 hf (smJm_min l N _ _) cqC_Jm_min ⟨rfl, rfl⟩ ⟨Nat.le_of_ble_eq_true rfl, Nat.le_of_ble_eq_true rfl⟩ rfl hl.1 rfl (Nat.le_of_ble_eq_true rfl) (t_room hI) dX2_gives_6 (fun v3 hf => ?_)
  refine lv_aload_n hx hb dX2_gives_9 rfl (lv_at hl 0 rfl) ?_
  refine tgX2_15 C hI hi_l0 dX2_gives_10 ?_
  refine lv_iload_n hx hb dX2_gives_13 rfl (lv_at hl 1 rfl) ?_
  refine t_cald C hI hi_l0 (by decide) hf dX2_gives_14 (fun v4 hf => ?_)
  refine lv_iconst (v := 1) hx hb dX2_gives_15 (by decide) ?_
  refine lv_isub hx hb dX2_gives_16 ?_
  refine g_calliS (rest := []) C.1 hf (smJm_min l N _ _) cqC_Jm_min ⟨rfl, rfl⟩ ⟨Nat.le_of_ble_eq_true rfl, Nat.le_of_ble_eq_true rfl⟩ rfl hl.1 rfl (Nat.le_of_ble_eq_true rfl) (t_room hI) dX2_gives_17 (fun v5 hf => ?_)
  refine lv_istore_n (lv' := [(3, .int v5), (0, .ref (wG w l0 5)), (1, .int l1), (2, .int l2)]) hx hb dX2_gives_20 rfl hl (by decide) rfl (fun ls hl => ?_)
  refine lv_aload_n hx hb dX2_gives_21 rfl (lv_at hl 1 rfl) ?_
  refine tgX2_15 C hI hi_l0 dX2_gives_22 ?_
  refine lv_iload_n hx hb dX2_gives_25 rfl (lv_at hl 2 rfl) ?_
  refine lv_dup2_11 hx hb dX2_gives_26 rfl rfl ?_
  refine t_cald C hI hi_l0 (by decide) hf dX2_gives_27 (fun v6 hf => ?_)
  refine lv_iload_n hx hb dX2_gives_28 rfl (lv_at hl 0 rfl) ?_
  refine lv_isub hx hb dX2_gives_29 ?_
  refine t_cast C hI hi_l0 (by decide) hf dX2_gives_30 (fun x7 H locs hI hf => ?_)
  refine lv_aload_n hx hb dX2_gives_31 rfl (lv_at hl 1 rfl) ?_
  refine tgX2_22 C hI hi_l0 dX2_gives_32 ?_
  refine lv_iload_n hx hb dX2_gives_35 rfl (lv_at hl 2 rfl) ?_
  refine lv_sipush (v := (-999)) hx hb dX2_gives_36 (by decide) ?_
  refine lv_aload_n hx hb dX2_gives_39 rfl (lv_at hl 1 rfl) ?_
  refine tgX2_22 C hI hi_l0 dX2_gives_40 ?_
  refine lv_iload_n hx hb dX2_gives_43 rfl (lv_at hl 2 rfl) ?_
  refine t_cald C hI hi_l0 (by decide) hf dX2_gives_44 (fun v8 hf => ?_)
  refine lv_iload_n hx hb dX2_gives_45 rfl (lv_at hl 0 rfl) ?_
  refine lv_isub hx hb dX2_gives_46 ?_
  refine g_calliS (rest := [.int l1, .ref (wG w l0 2)]) C.1 hf (smJm_max l N _ _) cqC_Jm_max ⟨rfl, rfl⟩ ⟨Nat.le_of_ble_eq_true rfl, Nat.le_of_ble_eq_true rfl⟩ rfl hl.1 rfl (Nat.le_of_ble_eq_true rfl) (t_room hI) dX2_gives_47 (fun v9 hf => ?_)
  refine t_cast C hI hi_l0 (by decide) hf dX2_gives_50 (fun x10 H locs hI hf => ?_)
  refine lv_aload_n hx hb dX2_gives_51 rfl (lv_at hl 1 rfl) ?_
  refine lv_iconst (v := 0) hx hb dX2_gives_52 (by decide) ?_
  refine lv_iload_n hx hb dX2_gives_53 rfl (lv_at hl 2 rfl) ?_
  refine lv_iload_n hx hb dX2_gives_54 rfl (lv_at hl 0 rfl) ?_
  refine t_cVv (rest := []) C hI hf (tmC_notes l N B hi_l0 _ _ _ _) (rv_chain C hI hi_l0) cqX2_C_notes ⟨Nat.le_of_ble_eq_true rfl, Nat.le_of_ble_eq_true rfl⟩ rfl hl.1 rfl (Nat.le_of_ble_eq_true rfl) dX2_gives_55 (fun x11 H locs hI hf => ?_)
  refine lv_iload_n hx hb dX2_gives_58 rfl (lv_at hl 0 rfl) ?_
  exact t_iret C hI hf dX2_gives_59
/-! TwelveChain$Chain.costOf(I)I -/
abbrev frC_costOf : Nat := 404
abbrev loC_costOf : Nat := 12107
def fC_costOf (N : Nat) (B : Nat × Nat) (x : TS) (l0 : cIx) (l1 : Int32) : Option (Int32 × TS) :=
  (fC_asks N B x l0 l1).bind fun x1 =>
  b2 (fT_tells N B x1 3 3 99) fun v3 x2 =>
  some (v3, x2)
theorem tmC_costOf (l : Launch) (N : Nat) {w : tO} {A : Nat → Prop} (B : Nat × Nat) {l0 : Nat} (hi_l0 : l0 < wn w) : ∀ (x : TS) (l1 : Int32) (r : Int32) (xr : TS), fC_costOf N B x l0 l1 = some (r, xr) → tMet l yX2_costOf (ws_ yX2_costOf cX2_costOf 2 (some .int)) frC_costOf loC_costOf [.ref (wG w l0 5), .int l1] w A B x (some (.int r)) xr := by
  intro x l1 r xr hf
  refine t_start (cc := cX2_costOf) (own := RX2) (by decide +kernel) rfl (Nat.le_of_ble_eq_true rfl) rfl ?_
  intro p e s m args below meth c ls H locs C hmn hI hl
  have hx := C.1.1
  have hb := C.1.2.1
  have hown := C.1.2.2.2.1
  have hts := C.1.2.2.2.2.1
  have hE := C.2.2
  rw [fC_costOf] at hf
  refine lv_aload_n hx hb dX2_costOf_0 rfl (lv_at hl 0 rfl) ?_
  refine lv_iload_n hx hb dX2_costOf_1 rfl (lv_at hl 1 rfl) ?_
  refine t_cVv (rest := []) C hI hf (tmC_asks l N B hi_l0 _ _) (rv_chain C hI hi_l0) cqX2_C_asks ⟨Nat.le_of_ble_eq_true rfl, Nat.le_of_ble_eq_true rfl⟩ rfl hl.1 rfl (Nat.le_of_ble_eq_true rfl) dX2_costOf_2 (fun x1 H locs hI hf => ?_)
  refine lv_aload_n hx hb dX2_costOf_5 rfl (lv_at hl 0 rfl) ?_
  refine tgX2_3 C hI hi_l0 dX2_costOf_6 ?_
  refine lv_iconst (v := 3) hx hb dX2_costOf_9 (by decide) ?_
  refine lv_iconst (v := 3) hx hb dX2_costOf_10 (by decide) ?_
  refine lv_bipush (v := 99) hx hb dX2_costOf_11 (by decide) ?_
  refine t_cVNi (rest := []) C hI hf (tmT_tells l N B _ _ _ _) (rv_main C hI) cn_T_tells ⟨q934, qs31⟩ (List.mem_of_getElem? (i := 7) rfl) ⟨Nat.le_of_ble_eq_true rfl, Nat.le_of_ble_eq_true rfl⟩ rfl hl.1 rfl (Nat.le_of_ble_eq_true rfl) dX2_costOf_13 (fun v3 x2 H locs hI hf => ?_)
  exact t_iret C hI hf dX2_costOf_16
/-! TwelveChain$Chain.does(LTwelveChain$Deed;)V -/
abbrev frC_does : Nat := 406
abbrev loC_does : Nat := 12151
def fC_does_b103 (N : Nat) (B : Nat × Nat) (x : TS) (l0 : cIx) (l1 : Nat) : Option TS :=
  b2 (gO x l1 11 (fDe_what N B x l1)) fun v2 x1 =>
  if v2 = 3 then
    b2 (gO x1 l1 11 (fDe_a N B x1 l1)) fun v4 x3 =>
    b2 (fC_canPaper N B x3 l0 v4) fun v6 x5 =>
    if v6 = 0 then
      some x5
    else
      b2 (gO x5 l1 11 (fDe_a N B x5 l1)) fun v8 x7 =>
      (fC_papers N B x7 l0 v8).bind fun x9 =>
      some x9
  else
    some x1
theorem w_fC_does_b103 {N : Nat} {B : Nat × Nat} {xr : TS} (C : tCx w A p s m args meth c cX2_does 2 RX2 none) : ∀ (x : TS) (l0 : cIx) (l1 : Nat) (H : Heap) (locs : List Loc) (ls : Array Slot), l0 < wn w → tI w A B x s.heap H locs → lv_has ls 2 [(0, .ref (wG w l0 5)), (1, .ref l1)] → fC_does_b103 N B x l0 l1 = some xr → W p l e (tRm B frC_does loC_does s.heap.size (SL s.heap)) s m args below meth c H locs (tZ x - s.heap.size) (tY x - SL s.heap) (MQ below (tQ w A B none xr) args s (B.1 - s.heap.size) (B.2 - SL s.heap) A) (F0 m 103 ls []) := by
  have hx := C.1.1
  have hb := C.1.2.1
  have hown := C.1.2.2.2.1
  have hts := C.1.2.2.2.2.1
  have hE := C.2.2
  intro x l0 l1 H locs ls hi_l0 hI hl hf
  rw [fC_does_b103] at hf
  refine lv_aload_n hx hb dX2_does_103 rfl (lv_at hl 1 rfl) ?_
  refine t_cOi (rest := []) C hI hf (tmDe_what l N B _ _) rfl cqX2_De_what ⟨Nat.le_of_ble_eq_true rfl, Nat.le_of_ble_eq_true rfl⟩ rfl hl.1 rfl (Nat.le_of_ble_eq_true rfl) dX2_does_104 (fun v2 x1 H locs hI hf => ?_)
  refine lv_iconst (v := 3) hx hb dX2_does_107 (by decide) ?_
  refine b_icne (tgt := 130) hx hb hf dX2_does_108 (by decide) (fun hf => ?_) (fun hf => ?_)
  · exact t_vret C hI hf dX2_does_130
  · refine lv_aload_n hx hb dX2_does_111 rfl (lv_at hl 0 rfl) ?_
    refine lv_aload_n hx hb dX2_does_112 rfl (lv_at hl 1 rfl) ?_
    refine t_cOi (rest := [.ref (wG w l0 5)]) C hI hf (tmDe_a l N B _ _) rfl cqX2_De_a ⟨Nat.le_of_ble_eq_true rfl, Nat.le_of_ble_eq_true rfl⟩ rfl hl.1 rfl (Nat.le_of_ble_eq_true rfl) dX2_does_113 (fun v4 x3 H locs hI hf => ?_)
    refine t_cVi (rest := []) C hI hf (tmC_canPaper l N B hi_l0 _ _) (rv_chain C hI hi_l0) cqX2_C_canPaper ⟨Nat.le_of_ble_eq_true rfl, Nat.le_of_ble_eq_true rfl⟩ rfl hl.1 rfl (Nat.le_of_ble_eq_true rfl) dX2_does_116 (fun v6 x5 H locs hI hf => ?_)
    refine b_ifeq (tgt := 130) hx hb hf dX2_does_119 (by decide) (fun hf => ?_) (fun hf => ?_)
    · exact t_vret C hI hf dX2_does_130
    · refine lv_aload_n hx hb dX2_does_122 rfl (lv_at hl 0 rfl) ?_
      refine lv_aload_n hx hb dX2_does_123 rfl (lv_at hl 1 rfl) ?_
      refine t_cOi (rest := [.ref (wG w l0 5)]) C hI hf (tmDe_a l N B _ _) rfl cqX2_De_a ⟨Nat.le_of_ble_eq_true rfl, Nat.le_of_ble_eq_true rfl⟩ rfl hl.1 rfl (Nat.le_of_ble_eq_true rfl) dX2_does_124 (fun v8 x7 H locs hI hf => ?_)
      refine t_cVv (rest := []) C hI hf (tmC_papers l N B hi_l0 _ _) (rv_chain C hI hi_l0) cqX2_C_papers ⟨Nat.le_of_ble_eq_true rfl, Nat.le_of_ble_eq_true rfl⟩ rfl hl.1 rfl (Nat.le_of_ble_eq_true rfl) dX2_does_127 (fun x9 H locs hI hf => ?_)
      exact t_vret C hI hf dX2_does_130
def fC_does_b60 (N : Nat) (B : Nat × Nat) (x : TS) (l0 : cIx) (l1 : Nat) : Option TS :=
  b2 (gO x l1 11 (fDe_what N B x l1)) fun v2 x1 =>
  if v2 = 2 then
    b2 (gO x1 l1 11 (fDe_a N B x1 l1)) fun v4 x3 =>
    b2 (gO x3 l1 11 (fDe_b N B x3 l1)) fun v6 x5 =>
    b2 (gO x5 l1 11 (fDe_n N B x5 l1)) fun v8 x7 =>
    b2 (fC_canPayTo N B x7 l0 v4 v6 v8) fun v10 x9 =>
    if v10 = 0 then
      fC_does_b103 N B x9 l0 l1
    else
      b2 (gO x9 l1 11 (fDe_a N B x9 l1)) fun v12 x11 =>
      b2 (gO x11 l1 11 (fDe_b N B x11 l1)) fun v14 x13 =>
      b2 (gO x13 l1 11 (fDe_n N B x13 l1)) fun v16 x15 =>
      (fC_pays N B x15 l0 v12 v14 v16).bind fun x17 =>
      fC_does_b103 N B x17 l0 l1
  else
    fC_does_b103 N B x1 l0 l1
theorem w_fC_does_b60 {N : Nat} {B : Nat × Nat} {xr : TS} (C : tCx w A p s m args meth c cX2_does 2 RX2 none) : ∀ (x : TS) (l0 : cIx) (l1 : Nat) (H : Heap) (locs : List Loc) (ls : Array Slot), l0 < wn w → tI w A B x s.heap H locs → lv_has ls 2 [(0, .ref (wG w l0 5)), (1, .ref l1)] → fC_does_b60 N B x l0 l1 = some xr → W p l e (tRm B frC_does loC_does s.heap.size (SL s.heap)) s m args below meth c H locs (tZ x - s.heap.size) (tY x - SL s.heap) (MQ below (tQ w A B none xr) args s (B.1 - s.heap.size) (B.2 - SL s.heap) A) (F0 m 60 ls []) := by
  have hx := C.1.1
  have hb := C.1.2.1
  have hown := C.1.2.2.2.1
  have hts := C.1.2.2.2.2.1
  have hE := C.2.2
  intro x l0 l1 H locs ls hi_l0 hI hl hf
  rw [fC_does_b60] at hf
  refine lv_aload_n hx hb dX2_does_60 rfl (lv_at hl 1 rfl) ?_
  refine t_cOi (rest := []) C hI hf (tmDe_what l N B _ _) rfl cqX2_De_what ⟨Nat.le_of_ble_eq_true rfl, Nat.le_of_ble_eq_true rfl⟩ rfl hl.1 rfl (Nat.le_of_ble_eq_true rfl) dX2_does_61 (fun v2 x1 H locs hI hf => ?_)
  refine lv_iconst (v := 2) hx hb dX2_does_64 (by decide) ?_
  refine b_icne (tgt := 103) hx hb hf dX2_does_65 (by decide) (fun hf => ?_) (fun hf => ?_)
  · exact w_fC_does_b103 C x1 l0 l1 _ _ _ hi_l0 hI (lv_sub hl [0, 1] rfl) hf
  · refine lv_aload_n hx hb dX2_does_68 rfl (lv_at hl 0 rfl) ?_
    refine lv_aload_n hx hb dX2_does_69 rfl (lv_at hl 1 rfl) ?_
    refine t_cOi (rest := [.ref (wG w l0 5)]) C hI hf (tmDe_a l N B _ _) rfl cqX2_De_a ⟨Nat.le_of_ble_eq_true rfl, Nat.le_of_ble_eq_true rfl⟩ rfl hl.1 rfl (Nat.le_of_ble_eq_true rfl) dX2_does_70 (fun v4 x3 H locs hI hf => ?_)
    refine lv_aload_n hx hb dX2_does_73 rfl (lv_at hl 1 rfl) ?_
    refine t_cOi (rest := [.int v4, .ref (wG w l0 5)]) C hI hf (tmDe_b l N B _ _) rfl cqX2_De_b ⟨Nat.le_of_ble_eq_true rfl, Nat.le_of_ble_eq_true rfl⟩ rfl hl.1 rfl (Nat.le_of_ble_eq_true rfl) dX2_does_74 (fun v6 x5 H locs hI hf => ?_)
    refine lv_aload_n hx hb dX2_does_77 rfl (lv_at hl 1 rfl) ?_
    refine t_cOi (rest := [.int v6, .int v4, .ref (wG w l0 5)]) C hI hf (tmDe_n l N B _ _) rfl cqX2_De_n ⟨Nat.le_of_ble_eq_true rfl, Nat.le_of_ble_eq_true rfl⟩ rfl hl.1 rfl (Nat.le_of_ble_eq_true rfl) dX2_does_78 (fun v8 x7 H locs hI hf => ?_)
    refine t_cVi (rest := []) C hI hf (tmC_canPayTo l N B hi_l0 _ _ _ _) (rv_chain C hI hi_l0) cqX2_C_canPayTo ⟨Nat.le_of_ble_eq_true rfl, Nat.le_of_ble_eq_true rfl⟩ rfl hl.1 rfl (Nat.le_of_ble_eq_true rfl) dX2_does_81 (fun v10 x9 H locs hI hf => ?_)
    refine b_ifeq (tgt := 103) hx hb hf dX2_does_84 (by decide) (fun hf => ?_) (fun hf => ?_)
    · exact w_fC_does_b103 C x9 l0 l1 _ _ _ hi_l0 hI (lv_sub hl [0, 1] rfl) hf
    · refine lv_aload_n hx hb dX2_does_87 rfl (lv_at hl 0 rfl) ?_
      refine lv_aload_n hx hb dX2_does_88 rfl (lv_at hl 1 rfl) ?_
      refine t_cOi (rest := [.ref (wG w l0 5)]) C hI hf (tmDe_a l N B _ _) rfl cqX2_De_a ⟨Nat.le_of_ble_eq_true rfl, Nat.le_of_ble_eq_true rfl⟩ rfl hl.1 rfl (Nat.le_of_ble_eq_true rfl) dX2_does_89 (fun v12 x11 H locs hI hf => ?_)
      refine lv_aload_n hx hb dX2_does_92 rfl (lv_at hl 1 rfl) ?_
      refine t_cOi (rest := [.int v12, .ref (wG w l0 5)]) C hI hf (tmDe_b l N B _ _) rfl cqX2_De_b ⟨Nat.le_of_ble_eq_true rfl, Nat.le_of_ble_eq_true rfl⟩ rfl hl.1 rfl (Nat.le_of_ble_eq_true rfl) dX2_does_93 (fun v14 x13 H locs hI hf => ?_)
      refine lv_aload_n hx hb dX2_does_96 rfl (lv_at hl 1 rfl) ?_
      refine t_cOi (rest := [.int v14, .int v12, .ref (wG w l0 5)]) C hI hf (tmDe_n l N B _ _) rfl cqX2_De_n ⟨Nat.le_of_ble_eq_true rfl, Nat.le_of_ble_eq_true rfl⟩ rfl hl.1 rfl (Nat.le_of_ble_eq_true rfl) dX2_does_97 (fun v16 x15 H locs hI hf => ?_)
      refine t_cVv (rest := []) C hI hf (tmC_pays l N B hi_l0 _ _ _ _) (rv_chain C hI hi_l0) cqX2_C_pays ⟨Nat.le_of_ble_eq_true rfl, Nat.le_of_ble_eq_true rfl⟩ rfl hl.1 rfl (Nat.le_of_ble_eq_true rfl) dX2_does_100 (fun x17 H locs hI hf => ?_)
      exact w_fC_does_b103 C x17 l0 l1 _ _ _ hi_l0 hI (lv_sub hl [0, 1] rfl) hf
def fC_does_b33 (N : Nat) (B : Nat × Nat) (x : TS) (l0 : cIx) (l1 : Nat) : Option TS :=
  b2 (gO x l1 11 (fDe_what N B x l1)) fun v2 x1 =>
  if v2 = 1 then
    b2 (gO x1 l1 11 (fDe_a N B x1 l1)) fun v4 x3 =>
    b2 (fC_canBridge N B x3 l0 v4) fun v6 x5 =>
    if v6 = 0 then
      fC_does_b60 N B x5 l0 l1
    else
      b2 (gO x5 l1 11 (fDe_a N B x5 l1)) fun v8 x7 =>
      (fC_bridges N B x7 l0 v8).bind fun x9 =>
      fC_does_b60 N B x9 l0 l1
  else
    fC_does_b60 N B x1 l0 l1
theorem w_fC_does_b33 {N : Nat} {B : Nat × Nat} {xr : TS} (C : tCx w A p s m args meth c cX2_does 2 RX2 none) : ∀ (x : TS) (l0 : cIx) (l1 : Nat) (H : Heap) (locs : List Loc) (ls : Array Slot), l0 < wn w → tI w A B x s.heap H locs → lv_has ls 2 [(0, .ref (wG w l0 5)), (1, .ref l1)] → fC_does_b33 N B x l0 l1 = some xr → W p l e (tRm B frC_does loC_does s.heap.size (SL s.heap)) s m args below meth c H locs (tZ x - s.heap.size) (tY x - SL s.heap) (MQ below (tQ w A B none xr) args s (B.1 - s.heap.size) (B.2 - SL s.heap) A) (F0 m 33 ls []) := by
  have hx := C.1.1
  have hb := C.1.2.1
  have hown := C.1.2.2.2.1
  have hts := C.1.2.2.2.2.1
  have hE := C.2.2
  intro x l0 l1 H locs ls hi_l0 hI hl hf
  rw [fC_does_b33] at hf
  refine lv_aload_n hx hb dX2_does_33 rfl (lv_at hl 1 rfl) ?_
  refine t_cOi (rest := []) C hI hf (tmDe_what l N B _ _) rfl cqX2_De_what ⟨Nat.le_of_ble_eq_true rfl, Nat.le_of_ble_eq_true rfl⟩ rfl hl.1 rfl (Nat.le_of_ble_eq_true rfl) dX2_does_34 (fun v2 x1 H locs hI hf => ?_)
  refine lv_iconst (v := 1) hx hb dX2_does_37 (by decide) ?_
  refine b_icne (tgt := 60) hx hb hf dX2_does_38 (by decide) (fun hf => ?_) (fun hf => ?_)
  · exact w_fC_does_b60 C x1 l0 l1 _ _ _ hi_l0 hI (lv_sub hl [0, 1] rfl) hf
  · refine lv_aload_n hx hb dX2_does_41 rfl (lv_at hl 0 rfl) ?_
    refine lv_aload_n hx hb dX2_does_42 rfl (lv_at hl 1 rfl) ?_
    refine t_cOi (rest := [.ref (wG w l0 5)]) C hI hf (tmDe_a l N B _ _) rfl cqX2_De_a ⟨Nat.le_of_ble_eq_true rfl, Nat.le_of_ble_eq_true rfl⟩ rfl hl.1 rfl (Nat.le_of_ble_eq_true rfl) dX2_does_43 (fun v4 x3 H locs hI hf => ?_)
    refine t_cVi (rest := []) C hI hf (tmC_canBridge l N B hi_l0 _ _) (rv_chain C hI hi_l0) cqX2_C_canBridge ⟨Nat.le_of_ble_eq_true rfl, Nat.le_of_ble_eq_true rfl⟩ rfl hl.1 rfl (Nat.le_of_ble_eq_true rfl) dX2_does_46 (fun v6 x5 H locs hI hf => ?_)
    refine b_ifeq (tgt := 60) hx hb hf dX2_does_49 (by decide) (fun hf => ?_) (fun hf => ?_)
    · exact w_fC_does_b60 C x5 l0 l1 _ _ _ hi_l0 hI (lv_sub hl [0, 1] rfl) hf
    · refine lv_aload_n hx hb dX2_does_52 rfl (lv_at hl 0 rfl) ?_
      refine lv_aload_n hx hb dX2_does_53 rfl (lv_at hl 1 rfl) ?_
      refine t_cOi (rest := [.ref (wG w l0 5)]) C hI hf (tmDe_a l N B _ _) rfl cqX2_De_a ⟨Nat.le_of_ble_eq_true rfl, Nat.le_of_ble_eq_true rfl⟩ rfl hl.1 rfl (Nat.le_of_ble_eq_true rfl) dX2_does_54 (fun v8 x7 H locs hI hf => ?_)
      refine t_cVv (rest := []) C hI hf (tmC_bridges l N B hi_l0 _ _) (rv_chain C hI hi_l0) cqX2_C_bridges ⟨Nat.le_of_ble_eq_true rfl, Nat.le_of_ble_eq_true rfl⟩ rfl hl.1 rfl (Nat.le_of_ble_eq_true rfl) dX2_does_57 (fun x9 H locs hI hf => ?_)
      exact w_fC_does_b60 C x9 l0 l1 _ _ _ hi_l0 hI (lv_sub hl [0, 1] rfl) hf
def fC_does (N : Nat) (B : Nat × Nat) (x : TS) (l0 : cIx) (l1 : Nat) : Option TS :=
  b2 (gO x l1 11 (fDe_what N B x l1)) fun v2 x1 =>
  if v2 = 0 then
    b2 (gO x1 l1 11 (fDe_a N B x1 l1)) fun v4 x3 =>
    b2 (fC_canAsk N B x3 l0 v4) fun v6 x5 =>
    if v6 = 0 then
      fC_does_b33 N B x5 l0 l1
    else
      b2 (gO x5 l1 11 (fDe_a N B x5 l1)) fun v8 x7 =>
      b2 (gO x7 l1 11 (fDe_n N B x7 l1)) fun v10 x9 =>
      b2 (fC_gives N B x9 l0 (v8 + 1) v10) fun v12 x11 =>
      fC_does_b33 N B x11 l0 l1
  else
    fC_does_b33 N B x1 l0 l1
theorem tmC_does (l : Launch) (N : Nat) {w : tO} {A : Nat → Prop} (B : Nat × Nat) {l0 : Nat} (hi_l0 : l0 < wn w) : ∀ (x : TS) (l1 : Nat) (xr : TS), fC_does N B x l0 l1 = some xr → tMet l yX2_does (ws_ yX2_does cX2_does 2 none) frC_does loC_does [.ref (wG w l0 5), .ref l1] w A B x none xr := by
  intro x l1 xr hf
  refine t_start (cc := cX2_does) (own := RX2) (by decide +kernel) rfl (Nat.le_of_ble_eq_true rfl) rfl ?_
  intro p e s m args below meth c ls H locs C hmn hI hl
  have hx := C.1.1
  have hb := C.1.2.1
  have hown := C.1.2.2.2.1
  have hts := C.1.2.2.2.2.1
  have hE := C.2.2
  rw [fC_does] at hf
  refine lv_aload_n hx hb dX2_does_0 rfl (lv_at hl 1 rfl) ?_
  refine t_cOi (rest := []) C hI hf (tmDe_what l N B _ _) rfl cqX2_De_what ⟨Nat.le_of_ble_eq_true rfl, Nat.le_of_ble_eq_true rfl⟩ rfl hl.1 rfl (Nat.le_of_ble_eq_true rfl) dX2_does_1 (fun v2 x1 H locs hI hf => ?_)
  refine b_ifne (tgt := 33) hx hb hf dX2_does_4 (by decide) (fun hf => ?_) (fun hf => ?_)
  · exact w_fC_does_b33 C x1 l0 l1 _ _ _ hi_l0 hI (lv_sub hl [0, 1] rfl) hf
  · refine lv_aload_n hx hb dX2_does_7 rfl (lv_at hl 0 rfl) ?_
    refine lv_aload_n hx hb dX2_does_8 rfl (lv_at hl 1 rfl) ?_
    refine t_cOi (rest := [.ref (wG w l0 5)]) C hI hf (tmDe_a l N B _ _) rfl cqX2_De_a ⟨Nat.le_of_ble_eq_true rfl, Nat.le_of_ble_eq_true rfl⟩ rfl hl.1 rfl (Nat.le_of_ble_eq_true rfl) dX2_does_9 (fun v4 x3 H locs hI hf => ?_)
    refine t_cVi (rest := []) C hI hf (tmC_canAsk l N B hi_l0 _ _) (rv_chain C hI hi_l0) cqX2_C_canAsk ⟨Nat.le_of_ble_eq_true rfl, Nat.le_of_ble_eq_true rfl⟩ rfl hl.1 rfl (Nat.le_of_ble_eq_true rfl) dX2_does_12 (fun v6 x5 H locs hI hf => ?_)
    refine b_ifeq (tgt := 33) hx hb hf dX2_does_15 (by decide) (fun hf => ?_) (fun hf => ?_)
    · exact w_fC_does_b33 C x5 l0 l1 _ _ _ hi_l0 hI (lv_sub hl [0, 1] rfl) hf
    · refine lv_aload_n hx hb dX2_does_18 rfl (lv_at hl 0 rfl) ?_
      refine lv_aload_n hx hb dX2_does_19 rfl (lv_at hl 1 rfl) ?_
      refine t_cOi (rest := [.ref (wG w l0 5)]) C hI hf (tmDe_a l N B _ _) rfl cqX2_De_a ⟨Nat.le_of_ble_eq_true rfl, Nat.le_of_ble_eq_true rfl⟩ rfl hl.1 rfl (Nat.le_of_ble_eq_true rfl) dX2_does_20 (fun v8 x7 H locs hI hf => ?_)
      refine lv_iconst (v := 1) hx hb dX2_does_23 (by decide) ?_
      refine lv_iadd hx hb dX2_does_24 ?_
      refine lv_aload_n hx hb dX2_does_25 rfl (lv_at hl 1 rfl) ?_
      refine t_cOi (rest := [.int (v8 + 1), .ref (wG w l0 5)]) C hI hf (tmDe_n l N B _ _) rfl cqX2_De_n ⟨Nat.le_of_ble_eq_true rfl, Nat.le_of_ble_eq_true rfl⟩ rfl hl.1 rfl (Nat.le_of_ble_eq_true rfl) dX2_does_26 (fun v10 x9 H locs hI hf => ?_)
      refine t_cVi (rest := []) C hI hf (tmC_gives l N B hi_l0 _ _ _) (rv_chain C hI hi_l0) cqX2_C_gives ⟨Nat.le_of_ble_eq_true rfl, Nat.le_of_ble_eq_true rfl⟩ rfl hl.1 rfl (Nat.le_of_ble_eq_true rfl) dX2_does_29 (fun v12 x11 H locs hI hf => ?_)
      refine lv_pop hx hb dX2_does_32 rfl ?_
      exact w_fC_does_b33 C x11 l0 l1 _ _ _ hi_l0 hI (lv_sub hl [0, 1] rfl) hf
/-! TwelveChain$Chain.leaveOf(I)I -/
abbrev frC_leaveOf : Nat := 404
abbrev loC_leaveOf : Nat := 12107
def fC_leaveOf (N : Nat) (B : Nat × Nat) (x : TS) (l0 : cIx) (l1 : Int32) : Option (Int32 × TS) :=
  (fC_asks N B x l0 l1).bind fun x1 =>
  b2 (fT_tells N B x1 1 0 1000) fun v3 x2 =>
  some (v3, x2)
theorem tmC_leaveOf (l : Launch) (N : Nat) {w : tO} {A : Nat → Prop} (B : Nat × Nat) {l0 : Nat} (hi_l0 : l0 < wn w) : ∀ (x : TS) (l1 : Int32) (r : Int32) (xr : TS), fC_leaveOf N B x l0 l1 = some (r, xr) → tMet l yX2_leaveOf (ws_ yX2_leaveOf cX2_leaveOf 2 (some .int)) frC_leaveOf loC_leaveOf [.ref (wG w l0 5), .int l1] w A B x (some (.int r)) xr := by
  intro x l1 r xr hf
  refine t_start (cc := cX2_leaveOf) (own := RX2) (by decide +kernel) rfl (Nat.le_of_ble_eq_true rfl) rfl ?_
  intro p e s m args below meth c ls H locs C hmn hI hl
  have hx := C.1.1
  have hb := C.1.2.1
  have hown := C.1.2.2.2.1
  have hts := C.1.2.2.2.2.1
  have hE := C.2.2
  rw [fC_leaveOf] at hf
  refine lv_aload_n hx hb dX2_leaveOf_0 rfl (lv_at hl 0 rfl) ?_
  refine lv_iload_n hx hb dX2_leaveOf_1 rfl (lv_at hl 1 rfl) ?_
  refine t_cVv (rest := []) C hI hf (tmC_asks l N B hi_l0 _ _) (rv_chain C hI hi_l0) cqX2_C_asks ⟨Nat.le_of_ble_eq_true rfl, Nat.le_of_ble_eq_true rfl⟩ rfl hl.1 rfl (Nat.le_of_ble_eq_true rfl) dX2_leaveOf_2 (fun x1 H locs hI hf => ?_)
  refine lv_aload_n hx hb dX2_leaveOf_5 rfl (lv_at hl 0 rfl) ?_
  refine tgX2_3 C hI hi_l0 dX2_leaveOf_6 ?_
  refine lv_iconst (v := 1) hx hb dX2_leaveOf_9 (by decide) ?_
  refine lv_iconst (v := 0) hx hb dX2_leaveOf_10 (by decide) ?_
  refine lv_sipush (v := 1000) hx hb dX2_leaveOf_11 (by decide) ?_
  refine t_cVNi (rest := []) C hI hf (tmT_tells l N B _ _ _ _) (rv_main C hI) cn_T_tells ⟨q934, qs31⟩ (List.mem_of_getElem? (i := 7) rfl) ⟨Nat.le_of_ble_eq_true rfl, Nat.le_of_ble_eq_true rfl⟩ rfl hl.1 rfl (Nat.le_of_ble_eq_true rfl) dX2_leaveOf_14 (fun v3 x2 H locs hI hf => ?_)
  exact t_iret C hI hf dX2_leaveOf_17
/-! TwelveChain$Chain.readyOf(I)I -/
abbrev frC_readyOf : Nat := 404
abbrev loC_readyOf : Nat := 12107
def fC_readyOf (N : Nat) (B : Nat × Nat) (x : TS) (l0 : cIx) (l1 : Int32) : Option (Int32 × TS) :=
  (fC_asks N B x l0 l1).bind fun x1 =>
  (rd 12 (tC x1 l0 3) l1).bind fun v2 =>
  b2 (fT_tells N B x1 0 (300 - (30 * v2)) 1000) fun v4 x3 =>
  some (v4, x3)
theorem tmC_readyOf (l : Launch) (N : Nat) {w : tO} {A : Nat → Prop} (B : Nat × Nat) {l0 : Nat} (hi_l0 : l0 < wn w) : ∀ (x : TS) (l1 : Int32) (r : Int32) (xr : TS), fC_readyOf N B x l0 l1 = some (r, xr) → tMet l yX2_readyOf (ws_ yX2_readyOf cX2_readyOf 2 (some .int)) frC_readyOf loC_readyOf [.ref (wG w l0 5), .int l1] w A B x (some (.int r)) xr := by
  intro x l1 r xr hf
  refine t_start (cc := cX2_readyOf) (own := RX2) (by decide +kernel) rfl (Nat.le_of_ble_eq_true rfl) rfl ?_
  intro p e s m args below meth c ls H locs C hmn hI hl
  have hx := C.1.1
  have hb := C.1.2.1
  have hown := C.1.2.2.2.1
  have hts := C.1.2.2.2.2.1
  have hE := C.2.2
  rw [fC_readyOf] at hf
  refine lv_aload_n hx hb dX2_readyOf_0 rfl (lv_at hl 0 rfl) ?_
  refine lv_iload_n hx hb dX2_readyOf_1 rfl (lv_at hl 1 rfl) ?_
  refine t_cVv (rest := []) C hI hf (tmC_asks l N B hi_l0 _ _) (rv_chain C hI hi_l0) cqX2_C_asks ⟨Nat.le_of_ble_eq_true rfl, Nat.le_of_ble_eq_true rfl⟩ rfl hl.1 rfl (Nat.le_of_ble_eq_true rfl) dX2_readyOf_2 (fun x1 H locs hI hf => ?_)
  refine lv_aload_n hx hb dX2_readyOf_5 rfl (lv_at hl 0 rfl) ?_
  refine tgX2_3 C hI hi_l0 dX2_readyOf_6 ?_
  refine lv_iconst (v := 0) hx hb dX2_readyOf_9 (by decide) ?_
  refine lv_sipush (v := 300) hx hb dX2_readyOf_10 (by decide) ?_
  refine lv_bipush (v := 30) hx hb dX2_readyOf_13 (by decide) ?_
  refine lv_aload_n hx hb dX2_readyOf_15 rfl (lv_at hl 0 rfl) ?_
  refine tgX2_25 C hI hi_l0 dX2_readyOf_16 ?_
  refine lv_iload_n hx hb dX2_readyOf_19 rfl (lv_at hl 1 rfl) ?_
  refine t_cald C hI hi_l0 (by decide) hf dX2_readyOf_20 (fun v2 hf => ?_)
  refine lv_imul hx hb dX2_readyOf_21 ?_
  refine lv_isub hx hb dX2_readyOf_22 ?_
  refine lv_sipush (v := 1000) hx hb dX2_readyOf_23 (by decide) ?_
  refine t_cVNi (rest := []) C hI hf (tmT_tells l N B _ _ _ _) (rv_main C hI) cn_T_tells ⟨q934, qs31⟩ (List.mem_of_getElem? (i := 7) rfl) ⟨Nat.le_of_ble_eq_true rfl, Nat.le_of_ble_eq_true rfl⟩ rfl hl.1 rfl (Nat.le_of_ble_eq_true rfl) dX2_readyOf_26 (fun v4 x3 H locs hI hf => ?_)
  exact t_iret C hI hf dX2_readyOf_29
/-! TwelveChain$Chain.goesBy()I -/
abbrev frC_goesBy : Nat := 407
abbrev loC_goesBy : Nat := 12172
def fC_goesBy_b126 (N : Nat) (B : Nat × Nat) (k98 : TS → cIx → Int32 → Option (Int32 × TS)) (x : TS) (l0 : cIx) (l1 : Int32) (s0 : Int32) : Option (Int32 × TS) :=
  if s0 ≤ 0 then
    k98 x l0 (l1 + 1)
  else
    b2 (fC_comes N B x l0 s0) fun v2 x1 =>
    if v2 = 0 then
      k98 x1 l0 (l1 + 1)
    else
      (fC_falls N B x1 l0 l1).bind fun x3 =>
      k98 x3 l0 (l1 + 1)
theorem w_fC_goesBy_b126 {N : Nat} {B : Nat × Nat} {r : Int32} {xr : TS} {k98 : TS → cIx → Int32 → Option (Int32 × TS)} (C : tCx w A p s m args meth c cX2_goesBy 3 RX2 (some .int)) (hk98 : ∀ (x : TS) (l0 : cIx) (l1 : Int32) (H : Heap) (locs : List Loc) (ls : Array Slot), l0 < wn w → tI w A B x s.heap H locs → lv_has ls 3 [(0, .ref (wG w l0 5)), (1, .int l1)] → k98 x l0 l1 = some (r, xr) → W p l e (tRm B frC_goesBy loC_goesBy s.heap.size (SL s.heap)) s m args below meth c H locs (tZ x - s.heap.size) (tY x - SL s.heap) (MQ below (tQ w A B (some (.int r)) xr) args s (B.1 - s.heap.size) (B.2 - SL s.heap) A) (F0 m 98 ls [])) : ∀ (x : TS) (l0 : cIx) (l1 : Int32) (s0 : Int32) (H : Heap) (locs : List Loc) (ls : Array Slot), l0 < wn w → tI w A B x s.heap H locs → lv_has ls 3 [(0, .ref (wG w l0 5)), (1, .int l1)] → fC_goesBy_b126 N B k98 x l0 l1 s0 = some (r, xr) → W p l e (tRm B frC_goesBy loC_goesBy s.heap.size (SL s.heap)) s m args below meth c H locs (tZ x - s.heap.size) (tY x - SL s.heap) (MQ below (tQ w A B (some (.int r)) xr) args s (B.1 - s.heap.size) (B.2 - SL s.heap) A) (F0 m 126 ls [.int s0]) := by
  have hx := C.1.1
  have hb := C.1.2.1
  have hown := C.1.2.2.2.1
  have hts := C.1.2.2.2.2.1
  have hE := C.2.2
  intro x l0 l1 s0 H locs ls hi_l0 hI hl hf
  rw [fC_goesBy_b126] at hf
  refine lv_istore_n (lv' := [(2, .int s0), (0, .ref (wG w l0 5)), (1, .int l1)]) hx hb dX2_goesBy_126 rfl hl (by decide) rfl (fun ls hl => ?_)
  refine lv_iload_n hx hb dX2_goesBy_127 rfl (lv_at hl 0 rfl) ?_
  refine b_ifle (tgt := 144) hx hb hf dX2_goesBy_128 (by decide) (fun hf => ?_) (fun hf => ?_)
  · refine lv_iinc (v := l1 + 1) (lv' := [(1, .int (l1 + 1)), (2, .int s0), (0, .ref (wG w l0 5))]) hx hb dX2_goesBy_144 hl (k := 2) rfl rfl (by decide) rfl (fun ls hl => ?_)
    refine lv_goto (tgt := 98) hx hb dX2_goesBy_147 (by decide) ?_
    exact hk98 x l0 (l1 + 1) _ _ _ hi_l0 hI (lv_sub hl [2, 0] rfl) hf
  · refine lv_aload_n hx hb dX2_goesBy_131 rfl (lv_at hl 1 rfl) ?_
    refine lv_iload_n hx hb dX2_goesBy_132 rfl (lv_at hl 0 rfl) ?_
    refine t_cVi (rest := []) C hI hf (tmC_comes l N B hi_l0 _ _) (rv_chain C hI hi_l0) cqX2_C_comes ⟨Nat.le_of_ble_eq_true rfl, Nat.le_of_ble_eq_true rfl⟩ rfl hl.1 rfl (Nat.le_of_ble_eq_true rfl) dX2_goesBy_133 (fun v2 x1 H locs hI hf => ?_)
    refine b_ifeq (tgt := 144) hx hb hf dX2_goesBy_136 (by decide) (fun hf => ?_) (fun hf => ?_)
    · refine lv_iinc (v := l1 + 1) (lv' := [(1, .int (l1 + 1)), (2, .int s0), (0, .ref (wG w l0 5))]) hx hb dX2_goesBy_144 hl (k := 2) rfl rfl (by decide) rfl (fun ls hl => ?_)
      refine lv_goto (tgt := 98) hx hb dX2_goesBy_147 (by decide) ?_
      exact hk98 x1 l0 (l1 + 1) _ _ _ hi_l0 hI (lv_sub hl [2, 0] rfl) hf
    · refine lv_aload_n hx hb dX2_goesBy_139 rfl (lv_at hl 1 rfl) ?_
      refine lv_iload_n hx hb dX2_goesBy_140 rfl (lv_at hl 2 rfl) ?_
      refine t_cVv (rest := []) C hI hf (tmC_falls l N B hi_l0 _ _) (rv_chain C hI hi_l0) cqX2_C_falls ⟨Nat.le_of_ble_eq_true rfl, Nat.le_of_ble_eq_true rfl⟩ rfl hl.1 rfl (Nat.le_of_ble_eq_true rfl) dX2_goesBy_141 (fun x3 H locs hI hf => ?_)
      refine lv_iinc (v := l1 + 1) (lv' := [(1, .int (l1 + 1)), (2, .int s0), (0, .ref (wG w l0 5))]) hx hb dX2_goesBy_144 hl (k := 2) rfl rfl (by decide) rfl (fun ls hl => ?_)
      refine lv_goto (tgt := 98) hx hb dX2_goesBy_147 (by decide) ?_
      exact hk98 x3 l0 (l1 + 1) _ _ _ hi_l0 hI (lv_sub hl [2, 0] rfl) hf
def fC_goesBy_b157 (N : Nat) (B : Nat × Nat) : Nat → TS → cIx → Int32 → Int32 → Option (Int32 × TS)
  | 0, _, _, _, _ => none
  | n + 1, x, l0, l1, l2 =>
  if (tS x 21) ≤ l2 then
    some (l1, sTF x l0 8 ((tF x l0 8) + 1))
  else
    (fT_has N (tF x l0 7) l2).bind fun v1 =>
    if v1 = 0 then
      fC_goesBy_b157 N B n x l0 l1 (l2 + 1)
    else
      b2 (fC_isThere N B x l0 l2) fun v3 x2 =>
      if v3 = 0 then
        fC_goesBy_b157 N B n x2 l0 l1 (l2 + 1)
      else
        (rd 12 (tC x2 l0 1) l2).bind fun v4 =>
        b2 (fC_costOf N B x2 l0 l2) fun v6 x5 =>
        (fJm_max N (-9999) (v4 - v6)).bind fun v7 =>
        (wrC x5 l0 1 l2 v7).bind fun x8 =>
        fC_goesBy_b157 N B n x8 l0 l1 (l2 + 1)
theorem w_fC_goesBy_b157 {N : Nat} {B : Nat × Nat} {r : Int32} {xr : TS} (C : tCx w A p s m args meth c cX2_goesBy 3 RX2 (some .int)) : ∀ (n : Nat) (x : TS) (l0 : cIx) (l1 : Int32) (l2 : Int32) (H : Heap) (locs : List Loc) (ls : Array Slot), l0 < wn w → tI w A B x s.heap H locs → lv_has ls 3 [(0, .ref (wG w l0 5)), (1, .int l1), (2, .int l2)] → fC_goesBy_b157 N B n x l0 l1 l2 = some (r, xr) → W p l e (tRm B frC_goesBy loC_goesBy s.heap.size (SL s.heap)) s m args below meth c H locs (tZ x - s.heap.size) (tY x - SL s.heap) (MQ below (tQ w A B (some (.int r)) xr) args s (B.1 - s.heap.size) (B.2 - SL s.heap) A) (F0 m 157 ls []) := by
  have hx := C.1.1
  have hb := C.1.2.1
  have hown := C.1.2.2.2.1
  have hts := C.1.2.2.2.2.1
  have hE := C.2.2
  intro n
  induction n with
  | zero => intro x l0 l1 l2 H locs ls hi_l0 hI hl hf; rw [fC_goesBy_b157] at hf; cases hf
  | succ n ih =>
  intro x l0 l1 l2 H locs ls hi_l0 hI hl hf
  rw [fC_goesBy_b157] at hf
  refine lv_iload_n hx hb dX2_goesBy_157 rfl (lv_at hl 2 rfl) ?_
  refine lv_aload_n hx hb dX2_goesBy_158 rfl (lv_at hl 0 rfl) ?_
  refine tgX2_3 C hI hi_l0 dX2_goesBy_159 ?_
  refine tgN_75 C hI dX2_goesBy_162 ?_
  refine b_icge (tgt := 217) hx hb hf dX2_goesBy_165 (by decide) (fun hf => ?_) (fun hf => ?_)
  · refine lv_aload_n hx hb dX2_goesBy_217 rfl (lv_at hl 0 rfl) ?_
    refine lv_dup hx hb dX2_goesBy_218 rfl ?_
    refine tgX2_45 C hI hi_l0 dX2_goesBy_219 ?_
    refine lv_iconst (v := 1) hx hb dX2_goesBy_222 (by decide) ?_
    refine lv_iadd hx hb dX2_goesBy_223 ?_
    refine tpX2_45 C hI hi_l0 dX2_goesBy_224 (fun H locs hI => ?_)
    refine lv_iload_n hx hb dX2_goesBy_227 rfl (lv_at hl 1 rfl) ?_
    exact t_iret C hI hf dX2_goesBy_228
  · refine lv_aload_n hx hb dX2_goesBy_168 rfl (lv_at hl 0 rfl) ?_
    refine tgX2_42 C hI hi_l0 dX2_goesBy_169 ?_
    refine lv_iload_n hx hb dX2_goesBy_172 rfl (lv_at hl 2 rfl) ?_
    refine g_calliSN (rest := []) C hf (smT_has l N _ _) cn_T_has q888 (List.mem_of_getElem? (i := 6) rfl) ⟨rfl, rfl⟩ ⟨Nat.le_of_ble_eq_true rfl, Nat.le_of_ble_eq_true rfl⟩ rfl hl.1 rfl (Nat.le_of_ble_eq_true rfl) (t_room hI) dX2_goesBy_173 (fun v1 hf => ?_)
    refine b_ifeq (tgt := 211) hx hb hf dX2_goesBy_176 (by decide) (fun hf => ?_) (fun hf => ?_)
    · refine lv_iinc (v := l2 + 1) (lv' := [(2, .int (l2 + 1)), (0, .ref (wG w l0 5)), (1, .int l1)]) hx hb dX2_goesBy_211 hl (k := 2) rfl rfl (by decide) rfl (fun ls hl => ?_)
      refine lv_goto (tgt := 157) hx hb dX2_goesBy_214 (by decide) ?_
      exact ih x l0 l1 (l2 + 1) _ _ _ hi_l0 hI (lv_sub hl [1, 2, 0] rfl) hf
    · refine lv_aload_n hx hb dX2_goesBy_179 rfl (lv_at hl 0 rfl) ?_
      refine lv_iload_n hx hb dX2_goesBy_180 rfl (lv_at hl 2 rfl) ?_
      refine t_cVi (rest := []) C hI hf (tmC_isThere l N B hi_l0 _ _) (rv_chain C hI hi_l0) cqX2_C_isThere ⟨Nat.le_of_ble_eq_true rfl, Nat.le_of_ble_eq_true rfl⟩ rfl hl.1 rfl (Nat.le_of_ble_eq_true rfl) dX2_goesBy_181 (fun v3 x2 H locs hI hf => ?_)
      refine b_ifeq (tgt := 211) hx hb hf dX2_goesBy_184 (by decide) (fun hf => ?_) (fun hf => ?_)
      · refine lv_iinc (v := l2 + 1) (lv' := [(2, .int (l2 + 1)), (0, .ref (wG w l0 5)), (1, .int l1)]) hx hb dX2_goesBy_211 hl (k := 2) rfl rfl (by decide) rfl (fun ls hl => ?_)
        refine lv_goto (tgt := 157) hx hb dX2_goesBy_214 (by decide) ?_
        exact ih x2 l0 l1 (l2 + 1) _ _ _ hi_l0 hI (lv_sub hl [1, 2, 0] rfl) hf
      · refine lv_aload_n hx hb dX2_goesBy_187 rfl (lv_at hl 0 rfl) ?_
        refine tgX2_19 C hI hi_l0 dX2_goesBy_188 ?_
        refine lv_iload_n hx hb dX2_goesBy_191 rfl (lv_at hl 2 rfl) ?_
        refine lv_sipush (v := (-9999)) hx hb dX2_goesBy_192 (by decide) ?_
        refine lv_aload_n hx hb dX2_goesBy_195 rfl (lv_at hl 0 rfl) ?_
        refine tgX2_19 C hI hi_l0 dX2_goesBy_196 ?_
        refine lv_iload_n hx hb dX2_goesBy_199 rfl (lv_at hl 2 rfl) ?_
        refine t_cald C hI hi_l0 (by decide) hf dX2_goesBy_200 (fun v4 hf => ?_)
        refine lv_aload_n hx hb dX2_goesBy_201 rfl (lv_at hl 0 rfl) ?_
        refine lv_iload_n hx hb dX2_goesBy_202 rfl (lv_at hl 2 rfl) ?_
        refine t_cVi (rest := [.int v4, .int (-9999), .int l2, .ref (wG w l0 1)]) C hI hf (tmC_costOf l N B hi_l0 _ _) (rv_chain C hI hi_l0) cqX2_C_costOf ⟨Nat.le_of_ble_eq_true rfl, Nat.le_of_ble_eq_true rfl⟩ rfl hl.1 rfl (Nat.le_of_ble_eq_true rfl) dX2_goesBy_203 (fun v6 x5 H locs hI hf => ?_)
        refine lv_isub hx hb dX2_goesBy_206 ?_
        refine g_calliS (rest := [.int l2, .ref (wG w l0 1)]) C.1 hf (smJm_max l N _ _) cqC_Jm_max ⟨rfl, rfl⟩ ⟨Nat.le_of_ble_eq_true rfl, Nat.le_of_ble_eq_true rfl⟩ rfl hl.1 rfl (Nat.le_of_ble_eq_true rfl) (t_room hI) dX2_goesBy_207 (fun v7 hf => ?_)
        refine t_cast C hI hi_l0 (by decide) hf dX2_goesBy_210 (fun x8 H locs hI hf => ?_)
        refine lv_iinc (v := l2 + 1) (lv' := [(2, .int (l2 + 1)), (0, .ref (wG w l0 5)), (1, .int l1)]) hx hb dX2_goesBy_211 hl (k := 2) rfl rfl (by decide) rfl (fun ls hl => ?_)
        refine lv_goto (tgt := 157) hx hb dX2_goesBy_214 (by decide) ?_
        exact ih x8 l0 l1 (l2 + 1) _ _ _ hi_l0 hI (lv_sub hl [1, 2, 0] rfl) hf
def fC_goesBy_b98 (N : Nat) (B : Nat × Nat) : Nat → TS → cIx → Int32 → Option (Int32 × TS)
  | 0, _, _, _ => none
  | n + 1, x, l0, l1 =>
  if (tS x 21) ≤ l1 then
    b2 (fC_movesParts N B x l0) fun v2 x1 =>
    fC_goesBy_b157 N B N x1 l0 v2 0
  else
    b2 (fC_isThere N B x l0 l1) fun v4 x3 =>
    if v4 = 0 then
      fC_goesBy_b126 N B (fC_goesBy_b98 N B n) x3 l0 l1 0
    else
      b2 (fC_leaveOf N B x3 l0 l1) fun v6 x5 =>
      fC_goesBy_b126 N B (fC_goesBy_b98 N B n) x5 l0 l1 v6
theorem w_fC_goesBy_b98 {N : Nat} {B : Nat × Nat} {r : Int32} {xr : TS} (C : tCx w A p s m args meth c cX2_goesBy 3 RX2 (some .int)) : ∀ (n : Nat) (x : TS) (l0 : cIx) (l1 : Int32) (H : Heap) (locs : List Loc) (ls : Array Slot), l0 < wn w → tI w A B x s.heap H locs → lv_has ls 3 [(0, .ref (wG w l0 5)), (1, .int l1)] → fC_goesBy_b98 N B n x l0 l1 = some (r, xr) → W p l e (tRm B frC_goesBy loC_goesBy s.heap.size (SL s.heap)) s m args below meth c H locs (tZ x - s.heap.size) (tY x - SL s.heap) (MQ below (tQ w A B (some (.int r)) xr) args s (B.1 - s.heap.size) (B.2 - SL s.heap) A) (F0 m 98 ls []) := by
  have hx := C.1.1
  have hb := C.1.2.1
  have hown := C.1.2.2.2.1
  have hts := C.1.2.2.2.2.1
  have hE := C.2.2
  intro n
  induction n with
  | zero => intro x l0 l1 H locs ls hi_l0 hI hl hf; rw [fC_goesBy_b98] at hf; cases hf
  | succ n ih =>
  intro x l0 l1 H locs ls hi_l0 hI hl hf
  rw [fC_goesBy_b98] at hf
  refine lv_iload_n hx hb dX2_goesBy_98 rfl (lv_at hl 1 rfl) ?_
  refine lv_aload_n hx hb dX2_goesBy_99 rfl (lv_at hl 0 rfl) ?_
  refine tgX2_3 C hI hi_l0 dX2_goesBy_100 ?_
  refine tgN_75 C hI dX2_goesBy_103 ?_
  refine b_icge (tgt := 150) hx hb hf dX2_goesBy_106 (by decide) (fun hf => ?_) (fun hf => ?_)
  · refine lv_aload_n hx hb dX2_goesBy_150 rfl (lv_at hl 0 rfl) ?_
    refine t_cVi (rest := []) C hI hf (tmC_movesParts l N B hi_l0 _) (rv_chain C hI hi_l0) cqX2_C_movesParts ⟨Nat.le_of_ble_eq_true rfl, Nat.le_of_ble_eq_true rfl⟩ rfl hl.1 rfl (Nat.le_of_ble_eq_true rfl) dX2_goesBy_151 (fun v2 x1 H locs hI hf => ?_)
    refine lv_istore_n (lv' := [(1, .int v2), (0, .ref (wG w l0 5))]) hx hb dX2_goesBy_154 rfl hl (by decide) rfl (fun ls hl => ?_)
    refine lv_iconst (v := 0) hx hb dX2_goesBy_155 (by decide) ?_
    refine lv_istore_n (lv' := [(2, .int 0), (1, .int v2), (0, .ref (wG w l0 5))]) hx hb dX2_goesBy_156 rfl hl (by decide) rfl (fun ls hl => ?_)
    exact w_fC_goesBy_b157 C N x1 l0 v2 0 _ _ _ hi_l0 hI (lv_sub hl [2, 1, 0] rfl) hf
  · refine lv_aload_n hx hb dX2_goesBy_109 rfl (lv_at hl 0 rfl) ?_
    refine lv_iload_n hx hb dX2_goesBy_110 rfl (lv_at hl 1 rfl) ?_
    refine t_cVi (rest := []) C hI hf (tmC_isThere l N B hi_l0 _ _) (rv_chain C hI hi_l0) cqX2_C_isThere ⟨Nat.le_of_ble_eq_true rfl, Nat.le_of_ble_eq_true rfl⟩ rfl hl.1 rfl (Nat.le_of_ble_eq_true rfl) dX2_goesBy_111 (fun v4 x3 H locs hI hf => ?_)
    refine b_ifeq (tgt := 125) hx hb hf dX2_goesBy_114 (by decide) (fun hf => ?_) (fun hf => ?_)
    · refine lv_iconst (v := 0) hx hb dX2_goesBy_125 (by decide) ?_
      exact w_fC_goesBy_b126 C ih x3 l0 l1 0 _ _ _ hi_l0 hI (lv_sub hl [0, 1] rfl) hf
    · refine lv_aload_n hx hb dX2_goesBy_117 rfl (lv_at hl 0 rfl) ?_
      refine lv_iload_n hx hb dX2_goesBy_118 rfl (lv_at hl 1 rfl) ?_
      refine t_cVi (rest := []) C hI hf (tmC_leaveOf l N B hi_l0 _ _) (rv_chain C hI hi_l0) cqX2_C_leaveOf ⟨Nat.le_of_ble_eq_true rfl, Nat.le_of_ble_eq_true rfl⟩ rfl hl.1 rfl (Nat.le_of_ble_eq_true rfl) dX2_goesBy_119 (fun v6 x5 H locs hI hf => ?_)
      refine lv_goto (tgt := 126) hx hb dX2_goesBy_122 (by decide) ?_
      exact w_fC_goesBy_b126 C ih x5 l0 l1 v6 _ _ _ hi_l0 hI (lv_sub hl [0, 1] rfl) hf
def fC_goesBy_b54 (N : Nat) (B : Nat × Nat) : Nat → TS → cIx → Int32 → Option (Int32 × TS)
  | 0, _, _, _ => none
  | n + 1, x, l0, l1 =>
  if (tS x 21) ≤ l1 then
    fC_goesBy_b98 N B N x l0 0
  else
    b2 (fC_canPaper N B x l0 l1) fun v2 x1 =>
    if v2 = 0 then
      fC_goesBy_b54 N B n x1 l0 (l1 + 1)
    else
      b2 (fC_readyOf N B x1 l0 l1) fun v4 x3 =>
      b2 (fC_comes N B x3 l0 v4) fun v6 x5 =>
      if v6 = 0 then
        fC_goesBy_b54 N B n x5 l0 (l1 + 1)
      else
        (fC_papers N B x5 l0 l1).bind fun x7 =>
        fC_goesBy_b54 N B n x7 l0 (l1 + 1)
theorem w_fC_goesBy_b54 {N : Nat} {B : Nat × Nat} {r : Int32} {xr : TS} (C : tCx w A p s m args meth c cX2_goesBy 3 RX2 (some .int)) : ∀ (n : Nat) (x : TS) (l0 : cIx) (l1 : Int32) (H : Heap) (locs : List Loc) (ls : Array Slot), l0 < wn w → tI w A B x s.heap H locs → lv_has ls 3 [(0, .ref (wG w l0 5)), (1, .int l1)] → fC_goesBy_b54 N B n x l0 l1 = some (r, xr) → W p l e (tRm B frC_goesBy loC_goesBy s.heap.size (SL s.heap)) s m args below meth c H locs (tZ x - s.heap.size) (tY x - SL s.heap) (MQ below (tQ w A B (some (.int r)) xr) args s (B.1 - s.heap.size) (B.2 - SL s.heap) A) (F0 m 54 ls []) := by
  have hx := C.1.1
  have hb := C.1.2.1
  have hown := C.1.2.2.2.1
  have hts := C.1.2.2.2.2.1
  have hE := C.2.2
  intro n
  induction n with
  | zero => intro x l0 l1 H locs ls hi_l0 hI hl hf; rw [fC_goesBy_b54] at hf; cases hf
  | succ n ih =>
  intro x l0 l1 H locs ls hi_l0 hI hl hf
  rw [fC_goesBy_b54] at hf
  refine lv_iload_n hx hb dX2_goesBy_54 rfl (lv_at hl 1 rfl) ?_
  refine lv_aload_n hx hb dX2_goesBy_55 rfl (lv_at hl 0 rfl) ?_
  refine tgX2_3 C hI hi_l0 dX2_goesBy_56 ?_
  refine tgN_75 C hI dX2_goesBy_59 ?_
  refine b_icge (tgt := 96) hx hb hf dX2_goesBy_62 (by decide) (fun hf => ?_) (fun hf => ?_)
  · refine lv_iconst (v := 0) hx hb dX2_goesBy_96 (by decide) ?_
    refine lv_istore_n (lv' := [(1, .int 0), (0, .ref (wG w l0 5))]) hx hb dX2_goesBy_97 rfl hl (by decide) rfl (fun ls hl => ?_)
    exact w_fC_goesBy_b98 C N x l0 0 _ _ _ hi_l0 hI (lv_sub hl [1, 0] rfl) hf
  · refine lv_aload_n hx hb dX2_goesBy_65 rfl (lv_at hl 0 rfl) ?_
    refine lv_iload_n hx hb dX2_goesBy_66 rfl (lv_at hl 1 rfl) ?_
    refine t_cVi (rest := []) C hI hf (tmC_canPaper l N B hi_l0 _ _) (rv_chain C hI hi_l0) cqX2_C_canPaper ⟨Nat.le_of_ble_eq_true rfl, Nat.le_of_ble_eq_true rfl⟩ rfl hl.1 rfl (Nat.le_of_ble_eq_true rfl) dX2_goesBy_67 (fun v2 x1 H locs hI hf => ?_)
    refine b_ifeq (tgt := 90) hx hb hf dX2_goesBy_70 (by decide) (fun hf => ?_) (fun hf => ?_)
    · refine lv_iinc (v := l1 + 1) (lv' := [(1, .int (l1 + 1)), (0, .ref (wG w l0 5))]) hx hb dX2_goesBy_90 hl (k := 1) rfl rfl (by decide) rfl (fun ls hl => ?_)
      refine lv_goto (tgt := 54) hx hb dX2_goesBy_93 (by decide) ?_
      exact ih x1 l0 (l1 + 1) _ _ _ hi_l0 hI (lv_sub hl [1, 0] rfl) hf
    · refine lv_aload_n hx hb dX2_goesBy_73 rfl (lv_at hl 0 rfl) ?_
      refine lv_aload_n hx hb dX2_goesBy_74 rfl (lv_at hl 0 rfl) ?_
      refine lv_iload_n hx hb dX2_goesBy_75 rfl (lv_at hl 1 rfl) ?_
      refine t_cVi (rest := [.ref (wG w l0 5)]) C hI hf (tmC_readyOf l N B hi_l0 _ _) (rv_chain C hI hi_l0) cqX2_C_readyOf ⟨Nat.le_of_ble_eq_true rfl, Nat.le_of_ble_eq_true rfl⟩ rfl hl.1 rfl (Nat.le_of_ble_eq_true rfl) dX2_goesBy_76 (fun v4 x3 H locs hI hf => ?_)
      refine t_cVi (rest := []) C hI hf (tmC_comes l N B hi_l0 _ _) (rv_chain C hI hi_l0) cqX2_C_comes ⟨Nat.le_of_ble_eq_true rfl, Nat.le_of_ble_eq_true rfl⟩ rfl hl.1 rfl (Nat.le_of_ble_eq_true rfl) dX2_goesBy_79 (fun v6 x5 H locs hI hf => ?_)
      refine b_ifeq (tgt := 90) hx hb hf dX2_goesBy_82 (by decide) (fun hf => ?_) (fun hf => ?_)
      · refine lv_iinc (v := l1 + 1) (lv' := [(1, .int (l1 + 1)), (0, .ref (wG w l0 5))]) hx hb dX2_goesBy_90 hl (k := 1) rfl rfl (by decide) rfl (fun ls hl => ?_)
        refine lv_goto (tgt := 54) hx hb dX2_goesBy_93 (by decide) ?_
        exact ih x5 l0 (l1 + 1) _ _ _ hi_l0 hI (lv_sub hl [1, 0] rfl) hf
      · refine lv_aload_n hx hb dX2_goesBy_85 rfl (lv_at hl 0 rfl) ?_
        refine lv_iload_n hx hb dX2_goesBy_86 rfl (lv_at hl 1 rfl) ?_
        refine t_cVv (rest := []) C hI hf (tmC_papers l N B hi_l0 _ _) (rv_chain C hI hi_l0) cqX2_C_papers ⟨Nat.le_of_ble_eq_true rfl, Nat.le_of_ble_eq_true rfl⟩ rfl hl.1 rfl (Nat.le_of_ble_eq_true rfl) dX2_goesBy_87 (fun x7 H locs hI hf => ?_)
        refine lv_iinc (v := l1 + 1) (lv' := [(1, .int (l1 + 1)), (0, .ref (wG w l0 5))]) hx hb dX2_goesBy_90 hl (k := 1) rfl rfl (by decide) rfl (fun ls hl => ?_)
        refine lv_goto (tgt := 54) hx hb dX2_goesBy_93 (by decide) ?_
        exact ih x7 l0 (l1 + 1) _ _ _ hi_l0 hI (lv_sub hl [1, 0] rfl) hf
def fC_goesBy_b2 (N : Nat) (B : Nat × Nat) : Nat → TS → cIx → Int32 → Option (Int32 × TS)
  | 0, _, _, _ => none
  | n + 1, x, l0, l1 =>
  (tR x 18).bind fun q1 =>
  (dlR x q1 5).bind fun v2 =>
  if v2 ≤ l1 then
    fC_goesBy_b54 N B N x l0 0
  else
    (tR x 18).bind fun q3 =>
    (dRg x q3 5 l1).bind fun o4 =>
    o4.bind fun q5 =>
    b2 (gO x q5 11 (fDe_day N B x q5)) fun v7 x6 =>
    if v7 = (tF x6 l0 8) then
      (tR x6 18).bind fun q8 =>
      (dRg x6 q8 5 l1).bind fun o9 =>
      o9.bind fun q10 =>
      (fC_does N B x6 l0 q10).bind fun x11 =>
      fC_goesBy_b2 N B n x11 l0 (l1 + 1)
    else
      fC_goesBy_b2 N B n x6 l0 (l1 + 1)
theorem w_fC_goesBy_b2 {N : Nat} {B : Nat × Nat} {r : Int32} {xr : TS} (C : tCx w A p s m args meth c cX2_goesBy 3 RX2 (some .int)) : ∀ (n : Nat) (x : TS) (l0 : cIx) (l1 : Int32) (H : Heap) (locs : List Loc) (ls : Array Slot), l0 < wn w → tI w A B x s.heap H locs → lv_has ls 3 [(0, .ref (wG w l0 5)), (1, .int l1)] → fC_goesBy_b2 N B n x l0 l1 = some (r, xr) → W p l e (tRm B frC_goesBy loC_goesBy s.heap.size (SL s.heap)) s m args below meth c H locs (tZ x - s.heap.size) (tY x - SL s.heap) (MQ below (tQ w A B (some (.int r)) xr) args s (B.1 - s.heap.size) (B.2 - SL s.heap) A) (F0 m 2 ls []) := by
  have hx := C.1.1
  have hb := C.1.2.1
  have hown := C.1.2.2.2.1
  have hts := C.1.2.2.2.2.1
  have hE := C.2.2
  intro n
  induction n with
  | zero => intro x l0 l1 H locs ls hi_l0 hI hl hf; rw [fC_goesBy_b2] at hf; cases hf
  | succ n ih =>
  intro x l0 l1 H locs ls hi_l0 hI hl hf
  rw [fC_goesBy_b2] at hf
  refine lv_iload_n hx hb dX2_goesBy_2 rfl (lv_at hl 1 rfl) ?_
  refine lv_aload_n hx hb dX2_goesBy_3 rfl (lv_at hl 0 rfl) ?_
  refine tgX2_3 C hI hi_l0 dX2_goesBy_4 ?_
  refine tgN_181 C hI dX2_goesBy_7 ?_
  refine t_nn (g := F0 m 10 ls) hf (fun q1 _ hf => ?_)
  refine t_dlen (code := 5) C hI hf rfl dX2_goesBy_10 (fun v2 hf => ?_)
  refine b_icge (tgt := 52) hx hb hf dX2_goesBy_11 (by decide) (fun hf => ?_) (fun hf => ?_)
  · refine lv_iconst (v := 0) hx hb dX2_goesBy_52 (by decide) ?_
    refine lv_istore_n (lv' := [(1, .int 0), (0, .ref (wG w l0 5))]) hx hb dX2_goesBy_53 rfl hl (by decide) rfl (fun ls hl => ?_)
    exact w_fC_goesBy_b54 C N x l0 0 _ _ _ hi_l0 hI (lv_sub hl [1, 0] rfl) hf
  · refine lv_aload_n hx hb dX2_goesBy_14 rfl (lv_at hl 0 rfl) ?_
    refine tgX2_3 C hI hi_l0 dX2_goesBy_15 ?_
    refine tgN_181 C hI dX2_goesBy_18 ?_
    refine t_nn (g := F0 m 21 ls) hf (fun q3 _ hf => ?_)
    refine lv_iload_n hx hb dX2_goesBy_21 rfl (lv_at hl 1 rfl) ?_
    refine t_daldR (code := 5) C hI hf rfl dX2_goesBy_22 (fun o4 hf => ?_)
    refine t_nn (g := F0 m 23 ls) hf (fun q5 _ hf => ?_)
    refine t_cOi (rest := []) C hI hf (tmDe_day l N B _ _) rfl cqX2_De_day ⟨Nat.le_of_ble_eq_true rfl, Nat.le_of_ble_eq_true rfl⟩ rfl hl.1 rfl (Nat.le_of_ble_eq_true rfl) dX2_goesBy_23 (fun v7 x6 H locs hI hf => ?_)
    refine lv_aload_n hx hb dX2_goesBy_26 rfl (lv_at hl 0 rfl) ?_
    refine tgX2_45 C hI hi_l0 dX2_goesBy_27 ?_
    refine b_icne (tgt := 46) hx hb hf dX2_goesBy_30 (by decide) (fun hf => ?_) (fun hf => ?_)
    · refine lv_iinc (v := l1 + 1) (lv' := [(1, .int (l1 + 1)), (0, .ref (wG w l0 5))]) hx hb dX2_goesBy_46 hl (k := 1) rfl rfl (by decide) rfl (fun ls hl => ?_)
      refine lv_goto (tgt := 2) hx hb dX2_goesBy_49 (by decide) ?_
      exact ih x6 l0 (l1 + 1) _ _ _ hi_l0 hI (lv_sub hl [1, 0] rfl) hf
    · refine lv_aload_n hx hb dX2_goesBy_33 rfl (lv_at hl 0 rfl) ?_
      refine lv_aload_n hx hb dX2_goesBy_34 rfl (lv_at hl 0 rfl) ?_
      refine tgX2_3 C hI hi_l0 dX2_goesBy_35 ?_
      refine tgN_181 C hI dX2_goesBy_38 ?_
      refine t_nn (g := F0 m 41 ls) hf (fun q8 _ hf => ?_)
      refine lv_iload_n hx hb dX2_goesBy_41 rfl (lv_at hl 1 rfl) ?_
      refine t_daldR (code := 5) C hI hf rfl dX2_goesBy_42 (fun o9 hf => ?_)
      refine t_nn (g := F0 m 43 ls) hf (fun q10 _ hf => ?_)
      refine t_cVv (rest := []) C hI hf (tmC_does l N B hi_l0 _ _) (rv_chain C hI hi_l0) cqX2_C_does ⟨Nat.le_of_ble_eq_true rfl, Nat.le_of_ble_eq_true rfl⟩ rfl hl.1 rfl (Nat.le_of_ble_eq_true rfl) dX2_goesBy_43 (fun x11 H locs hI hf => ?_)
      refine lv_iinc (v := l1 + 1) (lv' := [(1, .int (l1 + 1)), (0, .ref (wG w l0 5))]) hx hb dX2_goesBy_46 hl (k := 1) rfl rfl (by decide) rfl (fun ls hl => ?_)
      refine lv_goto (tgt := 2) hx hb dX2_goesBy_49 (by decide) ?_
      exact ih x11 l0 (l1 + 1) _ _ _ hi_l0 hI (lv_sub hl [1, 0] rfl) hf
def fC_goesBy (N : Nat) (B : Nat × Nat) (x : TS) (l0 : cIx) : Option (Int32 × TS) :=
  fC_goesBy_b2 N B N x l0 0
theorem tmC_goesBy (l : Launch) (N : Nat) {w : tO} {A : Nat → Prop} (B : Nat × Nat) {l0 : Nat} (hi_l0 : l0 < wn w) : ∀ (x : TS) (r : Int32) (xr : TS), fC_goesBy N B x l0 = some (r, xr) → tMet l yX2_goesBy (ws_ yX2_goesBy cX2_goesBy 3 (some .int)) frC_goesBy loC_goesBy [.ref (wG w l0 5)] w A B x (some (.int r)) xr := by
  intro x  r xr hf
  refine t_start (cc := cX2_goesBy) (own := RX2) (by decide +kernel) rfl (Nat.le_of_ble_eq_true rfl) rfl ?_
  intro p e s m args below meth c ls H locs C hmn hI hl
  have hx := C.1.1
  have hb := C.1.2.1
  have hown := C.1.2.2.2.1
  have hts := C.1.2.2.2.2.1
  have hE := C.2.2
  rw [fC_goesBy] at hf
  refine lv_iconst (v := 0) hx hb dX2_goesBy_0 (by decide) ?_
  refine lv_istore_n (lv' := [(1, .int 0), (0, .ref (wG w l0 5))]) hx hb dX2_goesBy_1 rfl hl (by decide) rfl (fun ls hl => ?_)
  exact w_fC_goesBy_b2 C N x l0 0 _ _ _ hi_l0 hI (lv_sub hl [1, 0] rfl) hf
/-! TwelveChain.of(II)I -/
abbrev frT_of : Nat := 405
abbrev loT_of : Nat := 12128
def fT_of (N : Nat) (B : Nat × Nat) (x : TS) (l1 : Int32) (l2 : Int32) : Option (Int32 × TS) :=
  b2 (fT_isLink N B x l1) fun v2 x1 =>
  if v2 = 0 then
    some ((-100000), x1)
  else
    if l2 = 0 then
      (rd 12 (tC x1 0 0) l1).bind fun v4 =>
      some (v4, x1)
    else if l2 = 1 then
      (rd 12 (tC x1 0 1) l1).bind fun v6 =>
      some (v6, x1)
    else if l2 = 2 then
      (rd 12 (tC x1 0 2) l1).bind fun v8 =>
      some (v8, x1)
    else if l2 = 3 then
      (rd 12 (tC x1 0 3) l1).bind fun v10 =>
      some (v10, x1)
    else if l2 = 4 then
      (fT_has N (tF x1 0 5) l1).bind fun v12 =>
      lt (if v12 = 0 then 0 else 1 : Int32) fun v13 =>
      some (v13, x1)
    else if l2 = 5 then
      (fT_has N (tF x1 0 6) l1).bind fun v15 =>
      lt (if v15 = 0 then 0 else 1 : Int32) fun v16 =>
      some (v16, x1)
    else if l2 = 6 then
      (fT_has N (tF x1 0 7) l1).bind fun v18 =>
      lt (if v18 = 0 then 0 else 1 : Int32) fun v19 =>
      some (v19, x1)
    else if l2 = 7 then
      (rd 12 (tC x1 0 4) l1).bind fun v21 =>
      some (v21, x1)
    else if l2 = 8 then
      b2 (fC_readyOf N B x1 0 l1) fun v24 x23 =>
      some (v24, x23)
    else if l2 = 9 then
      b2 (fC_leaveOf N B x1 0 l1) fun v27 x26 =>
      some (v27, x26)
    else if l2 = 10 then
      b2 (fC_giveOf N B x1 0 l1) fun v30 x29 =>
      some (v30, x29)
    else if l2 = 11 then
      b2 (fC_costOf N B x1 0 l1) fun v33 x32 =>
      some (v33, x32)
    else if l2 = 12 then
      b2 (fC_canPay N B x1 0 l1) fun v36 x35 =>
      lt (if v36 = 0 then 0 else 1 : Int32) fun v37 =>
      some (v37, x35)
    else if l2 = 13 then
      b2 (fC_lacksOf N B x1 0 l1) fun v40 x39 =>
      some (v40, x39)
    else 
      some ((-100000), x1)
theorem tmT_of (l : Launch) (N : Nat) {w : tO} {A : Nat → Prop} (B : Nat × Nat) : ∀ (x : TS) (l1 : Int32) (l2 : Int32) (r : Int32) (xr : TS), fT_of N B x l1 l2 = some (r, xr) → tMet l yX0_of (ws_ yX0_of cX0_of 3 (some .int)) frT_of loT_of [.ref (wa w 37), .int l1, .int l2] w A B x (some (.int r)) xr := by
  intro x l1 l2 r xr hf
  refine t_start (cc := cX0_of) (own := RX0) (by decide +kernel) rfl (Nat.le_of_ble_eq_true rfl) rfl ?_
  intro p e s m args below meth c ls H locs C hmn hI hl
  have hx := C.1.1
  have hb := C.1.2.1
  have hown := C.1.2.2.2.1
  have hts := C.1.2.2.2.2.1
  have hE := C.2.2
  rw [fT_of] at hf
  refine lv_aload_n hx hb dX0_of_0 rfl (lv_at hl 0 rfl) ?_
  refine lv_iload_n hx hb dX0_of_1 rfl (lv_at hl 1 rfl) ?_
  refine t_cVi (rest := []) C hI hf (tmT_isLink l N B _ _) (rv_main C hI) cqX0_T_isLink ⟨Nat.le_of_ble_eq_true rfl, Nat.le_of_ble_eq_true rfl⟩ rfl hl.1 rfl (Nat.le_of_ble_eq_true rfl) dX0_of_2 (fun v2 x1 H locs hI hf => ?_)
  refine b_ifne (tgt := 12) hx hb hf dX0_of_5 (by decide) (fun hf => ?_) (fun hf => ?_)
  · refine lv_iload_n hx hb dX0_of_12 rfl (lv_at hl 2 rfl) ?_
    refine b_tIn (k := 0) (j := 0) (tgt := 84) hx hb hf dX0_of_13 (by decide +kernel) rfl (by decide) (fun hf => ?_) (fun h3 hf => ?_)
    · refine lv_aload_n hx hb dX0_of_84 rfl (lv_at hl 0 rfl) ?_
      refine tgX0_152 C hI dX0_of_85 ?_
      refine tgX0_404 C hI (tI.l3 hI (by decide)) dX0_of_88 ?_
      refine lv_iload_n hx hb dX0_of_91 rfl (lv_at hl 1 rfl) ?_
      refine t_cald C hI (tI.l3 hI (by decide)) (by decide) hf dX0_of_92 (fun v4 hf => ?_)
      exact t_iret C hI hf dX0_of_93
    refine b_tIn (k := 1) (j := 1) (tgt := 94) hx hb hf dX0_of_13 (by decide +kernel) rfl (by decide) (fun hf => ?_) (fun h5 hf => ?_)
    · refine lv_aload_n hx hb dX0_of_94 rfl (lv_at hl 0 rfl) ?_
      refine tgX0_152 C hI dX0_of_95 ?_
      refine tgX0_406 C hI (tI.l3 hI (by decide)) dX0_of_98 ?_
      refine lv_iload_n hx hb dX0_of_101 rfl (lv_at hl 1 rfl) ?_
      refine t_cald C hI (tI.l3 hI (by decide)) (by decide) hf dX0_of_102 (fun v6 hf => ?_)
      exact t_iret C hI hf dX0_of_103
    refine b_tIn (k := 2) (j := 2) (tgt := 104) hx hb hf dX0_of_13 (by decide +kernel) rfl (by decide) (fun hf => ?_) (fun h7 hf => ?_)
    · refine lv_aload_n hx hb dX0_of_104 rfl (lv_at hl 0 rfl) ?_
      refine tgX0_152 C hI dX0_of_105 ?_
      refine tgX0_408 C hI (tI.l3 hI (by decide)) dX0_of_108 ?_
      refine lv_iload_n hx hb dX0_of_111 rfl (lv_at hl 1 rfl) ?_
      refine t_cald C hI (tI.l3 hI (by decide)) (by decide) hf dX0_of_112 (fun v8 hf => ?_)
      exact t_iret C hI hf dX0_of_113
    refine b_tIn (k := 3) (j := 3) (tgt := 114) hx hb hf dX0_of_13 (by decide +kernel) rfl (by decide) (fun hf => ?_) (fun h9 hf => ?_)
    · refine lv_aload_n hx hb dX0_of_114 rfl (lv_at hl 0 rfl) ?_
      refine tgX0_152 C hI dX0_of_115 ?_
      refine tgX0_410 C hI (tI.l3 hI (by decide)) dX0_of_118 ?_
      refine lv_iload_n hx hb dX0_of_121 rfl (lv_at hl 1 rfl) ?_
      refine t_cald C hI (tI.l3 hI (by decide)) (by decide) hf dX0_of_122 (fun v10 hf => ?_)
      exact t_iret C hI hf dX0_of_123
    refine b_tIn (k := 4) (j := 4) (tgt := 124) hx hb hf dX0_of_13 (by decide +kernel) rfl (by decide) (fun hf => ?_) (fun h11 hf => ?_)
    · refine lv_aload_n hx hb dX0_of_124 rfl (lv_at hl 0 rfl) ?_
      refine tgX0_152 C hI dX0_of_125 ?_
      refine tgX0_415 C hI (tI.l3 hI (by decide)) dX0_of_128 ?_
      refine lv_iload_n hx hb dX0_of_131 rfl (lv_at hl 1 rfl) ?_
      refine g_calliS (rest := []) C.1 hf (smT_has l N _ _) cqT_T_has ⟨rfl, rfl⟩ ⟨Nat.le_of_ble_eq_true rfl, Nat.le_of_ble_eq_true rfl⟩ rfl hl.1 rfl (Nat.le_of_ble_eq_true rfl) (t_room hI) dX0_of_132 (fun v12 hf => ?_)
      suffices hJ : ∀ v13 : Int32, (v13 = (if v12 = 0 then 0 else 1 : Int32)) → W p l e (tRm B frT_of loT_of s.heap.size (SL s.heap)) s m args below meth c H locs (tZ x1 - s.heap.size) (tY x1 - SL s.heap) (MQ below (tQ w A B (some (.int r)) xr) args s (B.1 - s.heap.size) (B.2 - SL s.heap) A) (F0 m 143 ls [.int v13]) by
        refine lv_if_eq (tgt := 142) hx hb dX0_of_135 (by decide) (fun hc => ?_) (fun hc => ?_)
        · refine lv_iconst (v := 0) hx hb dX0_of_142 (by decide) ?_
          exact hJ _ (if_pos hc).symm
        · refine lv_iconst (v := 1) hx hb dX0_of_138 (by decide) ?_
          refine lv_goto (tgt := 143) hx hb dX0_of_139 (by decide) ?_
          exact hJ _ (if_neg hc).symm
      intro v13 hv
      have hf := lt_of hv hf
      exact t_iret C hI hf dX0_of_143
    refine b_tIn (k := 5) (j := 5) (tgt := 144) hx hb hf dX0_of_13 (by decide +kernel) rfl (by decide) (fun hf => ?_) (fun h14 hf => ?_)
    · refine lv_aload_n hx hb dX0_of_144 rfl (lv_at hl 0 rfl) ?_
      refine tgX0_152 C hI dX0_of_145 ?_
      refine tgX0_417 C hI (tI.l3 hI (by decide)) dX0_of_148 ?_
      refine lv_iload_n hx hb dX0_of_151 rfl (lv_at hl 1 rfl) ?_
      refine g_calliS (rest := []) C.1 hf (smT_has l N _ _) cqT_T_has ⟨rfl, rfl⟩ ⟨Nat.le_of_ble_eq_true rfl, Nat.le_of_ble_eq_true rfl⟩ rfl hl.1 rfl (Nat.le_of_ble_eq_true rfl) (t_room hI) dX0_of_152 (fun v15 hf => ?_)
      suffices hJ : ∀ v16 : Int32, (v16 = (if v15 = 0 then 0 else 1 : Int32)) → W p l e (tRm B frT_of loT_of s.heap.size (SL s.heap)) s m args below meth c H locs (tZ x1 - s.heap.size) (tY x1 - SL s.heap) (MQ below (tQ w A B (some (.int r)) xr) args s (B.1 - s.heap.size) (B.2 - SL s.heap) A) (F0 m 163 ls [.int v16]) by
        refine lv_if_eq (tgt := 162) hx hb dX0_of_155 (by decide) (fun hc => ?_) (fun hc => ?_)
        · refine lv_iconst (v := 0) hx hb dX0_of_162 (by decide) ?_
          exact hJ _ (if_pos hc).symm
        · refine lv_iconst (v := 1) hx hb dX0_of_158 (by decide) ?_
          refine lv_goto (tgt := 163) hx hb dX0_of_159 (by decide) ?_
          exact hJ _ (if_neg hc).symm
      intro v16 hv
      have hf := lt_of hv hf
      exact t_iret C hI hf dX0_of_163
    refine b_tIn (k := 6) (j := 6) (tgt := 164) hx hb hf dX0_of_13 (by decide +kernel) rfl (by decide) (fun hf => ?_) (fun h17 hf => ?_)
    · refine lv_aload_n hx hb dX0_of_164 rfl (lv_at hl 0 rfl) ?_
      refine tgX0_152 C hI dX0_of_165 ?_
      refine tgX0_420 C hI (tI.l3 hI (by decide)) dX0_of_168 ?_
      refine lv_iload_n hx hb dX0_of_171 rfl (lv_at hl 1 rfl) ?_
      refine g_calliS (rest := []) C.1 hf (smT_has l N _ _) cqT_T_has ⟨rfl, rfl⟩ ⟨Nat.le_of_ble_eq_true rfl, Nat.le_of_ble_eq_true rfl⟩ rfl hl.1 rfl (Nat.le_of_ble_eq_true rfl) (t_room hI) dX0_of_172 (fun v18 hf => ?_)
      suffices hJ : ∀ v19 : Int32, (v19 = (if v18 = 0 then 0 else 1 : Int32)) → W p l e (tRm B frT_of loT_of s.heap.size (SL s.heap)) s m args below meth c H locs (tZ x1 - s.heap.size) (tY x1 - SL s.heap) (MQ below (tQ w A B (some (.int r)) xr) args s (B.1 - s.heap.size) (B.2 - SL s.heap) A) (F0 m 183 ls [.int v19]) by
        refine lv_if_eq (tgt := 182) hx hb dX0_of_175 (by decide) (fun hc => ?_) (fun hc => ?_)
        · refine lv_iconst (v := 0) hx hb dX0_of_182 (by decide) ?_
          exact hJ _ (if_pos hc).symm
        · refine lv_iconst (v := 1) hx hb dX0_of_178 (by decide) ?_
          refine lv_goto (tgt := 183) hx hb dX0_of_179 (by decide) ?_
          exact hJ _ (if_neg hc).symm
      intro v19 hv
      have hf := lt_of hv hf
      exact t_iret C hI hf dX0_of_183
    refine b_tIn (k := 7) (j := 7) (tgt := 184) hx hb hf dX0_of_13 (by decide +kernel) rfl (by decide) (fun hf => ?_) (fun h20 hf => ?_)
    · refine lv_aload_n hx hb dX0_of_184 rfl (lv_at hl 0 rfl) ?_
      refine tgX0_152 C hI dX0_of_185 ?_
      refine tgX0_412 C hI (tI.l3 hI (by decide)) dX0_of_188 ?_
      refine lv_iload_n hx hb dX0_of_191 rfl (lv_at hl 1 rfl) ?_
      refine t_cald C hI (tI.l3 hI (by decide)) (by decide) hf dX0_of_192 (fun v21 hf => ?_)
      exact t_iret C hI hf dX0_of_193
    refine b_tIn (k := 8) (j := 8) (tgt := 194) hx hb hf dX0_of_13 (by decide +kernel) rfl (by decide) (fun hf => ?_) (fun h22 hf => ?_)
    · refine lv_aload_n hx hb dX0_of_194 rfl (lv_at hl 0 rfl) ?_
      refine tgX0_152 C hI dX0_of_195 ?_
      refine lv_iload_n hx hb dX0_of_198 rfl (lv_at hl 1 rfl) ?_
      refine t_cVi (rest := []) C hI hf (tmC_readyOf l N B (tI.l3 hI (by decide)) _ _) (rv_chain C hI (tI.l3 hI (by decide))) cqX0_C_readyOf ⟨Nat.le_of_ble_eq_true rfl, Nat.le_of_ble_eq_true rfl⟩ rfl hl.1 rfl (Nat.le_of_ble_eq_true rfl) dX0_of_199 (fun v24 x23 H locs hI hf => ?_)
      exact t_iret C hI hf dX0_of_202
    refine b_tIn (k := 9) (j := 9) (tgt := 203) hx hb hf dX0_of_13 (by decide +kernel) rfl (by decide) (fun hf => ?_) (fun h25 hf => ?_)
    · refine lv_aload_n hx hb dX0_of_203 rfl (lv_at hl 0 rfl) ?_
      refine tgX0_152 C hI dX0_of_204 ?_
      refine lv_iload_n hx hb dX0_of_207 rfl (lv_at hl 1 rfl) ?_
      refine t_cVi (rest := []) C hI hf (tmC_leaveOf l N B (tI.l3 hI (by decide)) _ _) (rv_chain C hI (tI.l3 hI (by decide))) cqX0_C_leaveOf ⟨Nat.le_of_ble_eq_true rfl, Nat.le_of_ble_eq_true rfl⟩ rfl hl.1 rfl (Nat.le_of_ble_eq_true rfl) dX0_of_208 (fun v27 x26 H locs hI hf => ?_)
      exact t_iret C hI hf dX0_of_211
    refine b_tIn (k := 10) (j := 10) (tgt := 212) hx hb hf dX0_of_13 (by decide +kernel) rfl (by decide) (fun hf => ?_) (fun h28 hf => ?_)
    · refine lv_aload_n hx hb dX0_of_212 rfl (lv_at hl 0 rfl) ?_
      refine tgX0_152 C hI dX0_of_213 ?_
      refine lv_iload_n hx hb dX0_of_216 rfl (lv_at hl 1 rfl) ?_
      refine t_cVi (rest := []) C hI hf (tmC_giveOf l N B (tI.l3 hI (by decide)) _ _) (rv_chain C hI (tI.l3 hI (by decide))) cqX0_C_giveOf ⟨Nat.le_of_ble_eq_true rfl, Nat.le_of_ble_eq_true rfl⟩ rfl hl.1 rfl (Nat.le_of_ble_eq_true rfl) dX0_of_217 (fun v30 x29 H locs hI hf => ?_)
      exact t_iret C hI hf dX0_of_220
    refine b_tIn (k := 11) (j := 11) (tgt := 221) hx hb hf dX0_of_13 (by decide +kernel) rfl (by decide) (fun hf => ?_) (fun h31 hf => ?_)
    · refine lv_aload_n hx hb dX0_of_221 rfl (lv_at hl 0 rfl) ?_
      refine tgX0_152 C hI dX0_of_222 ?_
      refine lv_iload_n hx hb dX0_of_225 rfl (lv_at hl 1 rfl) ?_
      refine t_cVi (rest := []) C hI hf (tmC_costOf l N B (tI.l3 hI (by decide)) _ _) (rv_chain C hI (tI.l3 hI (by decide))) cqX0_C_costOf ⟨Nat.le_of_ble_eq_true rfl, Nat.le_of_ble_eq_true rfl⟩ rfl hl.1 rfl (Nat.le_of_ble_eq_true rfl) dX0_of_226 (fun v33 x32 H locs hI hf => ?_)
      exact t_iret C hI hf dX0_of_229
    refine b_tIn (k := 12) (j := 12) (tgt := 230) hx hb hf dX0_of_13 (by decide +kernel) rfl (by decide) (fun hf => ?_) (fun h34 hf => ?_)
    · refine lv_aload_n hx hb dX0_of_230 rfl (lv_at hl 0 rfl) ?_
      refine tgX0_152 C hI dX0_of_231 ?_
      refine lv_iload_n hx hb dX0_of_234 rfl (lv_at hl 1 rfl) ?_
      refine t_cVi (rest := []) C hI hf (tmC_canPay l N B (tI.l3 hI (by decide)) _ _) (rv_chain C hI (tI.l3 hI (by decide))) cqX0_C_canPay ⟨Nat.le_of_ble_eq_true rfl, Nat.le_of_ble_eq_true rfl⟩ rfl hl.1 rfl (Nat.le_of_ble_eq_true rfl) dX0_of_235 (fun v36 x35 H locs hI hf => ?_)
      suffices hJ : ∀ v37 : Int32, (v37 = (if v36 = 0 then 0 else 1 : Int32)) → W p l e (tRm B frT_of loT_of s.heap.size (SL s.heap)) s m args below meth c H locs (tZ x35 - s.heap.size) (tY x35 - SL s.heap) (MQ below (tQ w A B (some (.int r)) xr) args s (B.1 - s.heap.size) (B.2 - SL s.heap) A) (F0 m 246 ls [.int v37]) by
        refine lv_if_eq (tgt := 245) hx hb dX0_of_238 (by decide) (fun hc => ?_) (fun hc => ?_)
        · refine lv_iconst (v := 0) hx hb dX0_of_245 (by decide) ?_
          exact hJ _ (if_pos hc).symm
        · refine lv_iconst (v := 1) hx hb dX0_of_241 (by decide) ?_
          refine lv_goto (tgt := 246) hx hb dX0_of_242 (by decide) ?_
          exact hJ _ (if_neg hc).symm
      intro v37 hv
      have hf := lt_of hv hf
      exact t_iret C hI hf dX0_of_246
    refine b_tIn (k := 13) (j := 13) (tgt := 247) hx hb hf dX0_of_13 (by decide +kernel) rfl (by decide) (fun hf => ?_) (fun h38 hf => ?_)
    · refine lv_aload_n hx hb dX0_of_247 rfl (lv_at hl 0 rfl) ?_
      refine tgX0_152 C hI dX0_of_248 ?_
      refine lv_iload_n hx hb dX0_of_251 rfl (lv_at hl 1 rfl) ?_
      refine t_cVi (rest := []) C hI hf (tmC_lacksOf l N B (tI.l3 hI (by decide)) _ _) (rv_chain C hI (tI.l3 hI (by decide))) cqX0_C_lacksOf ⟨Nat.le_of_ble_eq_true rfl, Nat.le_of_ble_eq_true rfl⟩ rfl hl.1 rfl (Nat.le_of_ble_eq_true rfl) dX0_of_252 (fun v40 x39 H locs hI hf => ?_)
      exact t_iret C hI hf dX0_of_255
    have h3 : l2.toInt ≠ 0 := sw_ne h3
    have h5 : l2.toInt ≠ 1 := sw_ne h5
    have h7 : l2.toInt ≠ 2 := sw_ne h7
    have h9 : l2.toInt ≠ 3 := sw_ne h9
    have h11 : l2.toInt ≠ 4 := sw_ne h11
    have h14 : l2.toInt ≠ 5 := sw_ne h14
    have h17 : l2.toInt ≠ 6 := sw_ne h17
    have h20 : l2.toInt ≠ 7 := sw_ne h20
    have h22 : l2.toInt ≠ 8 := sw_ne h22
    have h25 : l2.toInt ≠ 9 := sw_ne h25
    have h28 : l2.toInt ≠ 10 := sw_ne h28
    have h31 : l2.toInt ≠ 11 := sw_ne h31
    have h34 : l2.toInt ≠ 12 := sw_ne h34
    have h38 : l2.toInt ≠ 13 := sw_ne h38
    refine lv_tableOut (tgt := 256) hx hb dX0_of_13 (by omega) (by decide) ?_
    refine lv_ldcw hx hb hown (hts _ q1097) dX0_of_256 ?_
    exact t_iret C hI hf dX0_of_259
  · refine lv_ldcw hx hb hown (hts _ q1097) dX0_of_8 ?_
    exact t_iret C hI hf dX0_of_11
/-! TwelveChain.goes(II)I -/
abbrev frT_goes : Nat := 408
abbrev loT_goes : Nat := 12194
def fT_goes_b88 (N : Nat) (B : Nat × Nat) : Nat → TS → Int32 → Int32 → Int32 → Option (Int32 × TS)
  | 0, _, _, _, _ => none
  | n + 1, x, l4, l5, l6 =>
  if (tS x 21) ≤ l6 then
    lt (if l4 = ((1 <<< ((tS x 21) &&& 31)) - 1) then l5 else (-1) : Int32) fun v1 =>
    some (v1, x)
  else
    (rd 12 (tC x 1 4) l6).bind fun v2 =>
    (fJm_max N l5 v2).bind fun v3 =>
    fT_goes_b88 N B n x l4 v3 (l6 + 1)
theorem w_fT_goes_b88 {N : Nat} {B : Nat × Nat} {r : Int32} {xr : TS} (C : tCx w A p s m args meth c cX0_goes 7 RX0 (some .int)) : ∀ (n : Nat) (x : TS) (l4 : Int32) (l5 : Int32) (l6 : Int32) (H : Heap) (locs : List Loc) (ls : Array Slot), tI w A B x s.heap H locs → lv_has ls 7 [(0, .ref (wa w 37)), (3, .ref (wG w 1 5)), (4, .int l4), (5, .int l5), (6, .int l6)] → fT_goes_b88 N B n x l4 l5 l6 = some (r, xr) → W p l e (tRm B frT_goes loT_goes s.heap.size (SL s.heap)) s m args below meth c H locs (tZ x - s.heap.size) (tY x - SL s.heap) (MQ below (tQ w A B (some (.int r)) xr) args s (B.1 - s.heap.size) (B.2 - SL s.heap) A) (F0 m 88 ls []) := by
  have hx := C.1.1
  have hb := C.1.2.1
  have hown := C.1.2.2.2.1
  have hts := C.1.2.2.2.2.1
  have hE := C.2.2
  intro n
  induction n with
  | zero => intro x l4 l5 l6 H locs ls hI hl hf; rw [fT_goes_b88] at hf; cases hf
  | succ n ih =>
  intro x l4 l5 l6 H locs ls hI hl hf
  rw [fT_goes_b88] at hf
  refine lv_iload hx hb dX0_goes_88 (lv_at hl 4 rfl) ?_
  refine lv_aload_n hx hb dX0_goes_90 rfl (lv_at hl 0 rfl) ?_
  refine tgX0_346 C hI dX0_goes_91 ?_
  refine b_icge (tgt := 117) hx hb hf dX0_goes_94 (by decide) (fun hf => ?_) (fun hf => ?_)
  · refine lv_iload hx hb dX0_goes_117 (lv_at hl 2 rfl) ?_
    refine lv_iconst (v := 1) hx hb dX0_goes_119 (by decide) ?_
    refine lv_aload_n hx hb dX0_goes_120 rfl (lv_at hl 0 rfl) ?_
    refine tgX0_346 C hI dX0_goes_121 ?_
    refine lv_ishl hx hb dX0_goes_124 ?_
    refine lv_iconst (v := 1) hx hb dX0_goes_125 (by decide) ?_
    refine lv_isub hx hb dX0_goes_126 ?_
    suffices hJ : ∀ v1 : Int32, (v1 = (if l4 = ((1 <<< ((tS x 21) &&& 31)) - 1) then l5 else (-1) : Int32)) → W p l e (tRm B frT_goes loT_goes s.heap.size (SL s.heap)) s m args below meth c H locs (tZ x - s.heap.size) (tY x - SL s.heap) (MQ below (tQ w A B (some (.int r)) xr) args s (B.1 - s.heap.size) (B.2 - SL s.heap) A) (F0 m 136 ls [.int v1]) by
      refine lv_icmp_ne (tgt := 135) hx hb dX0_goes_127 (by decide) (fun hc => ?_) (fun hc => ?_)
      · refine lv_iconst (v := (-1)) hx hb dX0_goes_135 (by decide) ?_
        exact hJ _ (if_neg hc).symm
      · refine lv_iload hx hb dX0_goes_130 (lv_at hl 3 rfl) ?_
        refine lv_goto (tgt := 136) hx hb dX0_goes_132 (by decide) ?_
        exact hJ _ (if_pos hc).symm
    intro v1 hv
    have hf := lt_of hv hf
    exact t_iret C hI hf dX0_goes_136
  · refine lv_iload hx hb dX0_goes_97 (lv_at hl 3 rfl) ?_
    refine lv_aload_n hx hb dX0_goes_99 rfl (lv_at hl 1 rfl) ?_
    refine tgX0_412 C hI (tI.l3 hI (by decide)) dX0_goes_100 ?_
    refine lv_iload hx hb dX0_goes_103 (lv_at hl 4 rfl) ?_
    refine t_cald C hI (tI.l3 hI (by decide)) (by decide) hf dX0_goes_105 (fun v2 hf => ?_)
    refine g_calliS (rest := []) C.1 hf (smJm_max l N _ _) cqT_Jm_max ⟨rfl, rfl⟩ ⟨Nat.le_of_ble_eq_true rfl, Nat.le_of_ble_eq_true rfl⟩ rfl hl.1 rfl (Nat.le_of_ble_eq_true rfl) (t_room hI) dX0_goes_106 (fun v3 hf => ?_)
    refine lv_istore (lv' := [(5, .int v3), (0, .ref (wa w 37)), (3, .ref (wG w 1 5)), (4, .int l4), (6, .int l6)]) hx hb dX0_goes_109 hl (by decide) rfl (fun ls hl => ?_)
    refine lv_iinc (v := l6 + 1) (lv' := [(6, .int (l6 + 1)), (5, .int v3), (0, .ref (wa w 37)), (3, .ref (wG w 1 5)), (4, .int l4)]) hx hb dX0_goes_111 hl (k := 4) rfl rfl (by decide) rfl (fun ls hl => ?_)
    refine lv_goto (tgt := 88) hx hb dX0_goes_114 (by decide) ?_
    exact ih x l4 v3 (l6 + 1) _ _ _ hI (lv_sub hl [2, 3, 4, 1, 0] rfl) hf
def fT_goes_b37 (N : Nat) (B : Nat × Nat) : Nat → TS → Int32 → Int32 → Int32 → Option (Int32 × TS)
  | 0, _, _, _, _ => none
  | n + 1, x, l1, l2, l4 =>
  if l1 ≤ l4 then
    b2 (fC_movedSet N B x 1) fun v2 x1 =>
    if l2 = 1 then
      fT_goes_b88 N B N x1 v2 (-1) 0
    else
      if l2 = 0 then
        (fJi_bitCount N v2).bind fun v3 =>
        some (v3, x1)
      else
        some (tF x1 1 9, x1)
  else
    b2 (fC_goesBy N B x 1) fun v5 x4 =>
    fT_goes_b37 N B n x4 l1 l2 (l4 + 1)
theorem w_fT_goes_b37 {N : Nat} {B : Nat × Nat} {r : Int32} {xr : TS} (C : tCx w A p s m args meth c cX0_goes 7 RX0 (some .int)) : ∀ (n : Nat) (x : TS) (l1 : Int32) (l2 : Int32) (l4 : Int32) (H : Heap) (locs : List Loc) (ls : Array Slot), tI w A B x s.heap H locs → lv_has ls 7 [(0, .ref (wa w 37)), (1, .int l1), (2, .int l2), (3, .ref (wG w 1 5)), (4, .int l4)] → fT_goes_b37 N B n x l1 l2 l4 = some (r, xr) → W p l e (tRm B frT_goes loT_goes s.heap.size (SL s.heap)) s m args below meth c H locs (tZ x - s.heap.size) (tY x - SL s.heap) (MQ below (tQ w A B (some (.int r)) xr) args s (B.1 - s.heap.size) (B.2 - SL s.heap) A) (F0 m 37 ls []) := by
  have hx := C.1.1
  have hb := C.1.2.1
  have hown := C.1.2.2.2.1
  have hts := C.1.2.2.2.2.1
  have hE := C.2.2
  intro n
  induction n with
  | zero => intro x l1 l2 l4 H locs ls hI hl hf; rw [fT_goes_b37] at hf; cases hf
  | succ n ih =>
  intro x l1 l2 l4 H locs ls hI hl hf
  rw [fT_goes_b37] at hf
  refine lv_iload hx hb dX0_goes_37 (lv_at hl 4 rfl) ?_
  refine lv_iload_n hx hb dX0_goes_39 rfl (lv_at hl 1 rfl) ?_
  refine b_icge (tgt := 54) hx hb hf dX0_goes_40 (by decide) (fun hf => ?_) (fun hf => ?_)
  · refine lv_aload_n hx hb dX0_goes_54 rfl (lv_at hl 3 rfl) ?_
    refine t_cVi (rest := []) C hI hf (tmC_movedSet l N B (tI.l3 hI (by decide)) _) (rv_chain C hI (tI.l3 hI (by decide))) cqX0_C_movedSet ⟨Nat.le_of_ble_eq_true rfl, Nat.le_of_ble_eq_true rfl⟩ rfl hl.1 rfl (Nat.le_of_ble_eq_true rfl) dX0_goes_55 (fun v2 x1 H locs hI hf => ?_)
    refine lv_istore (lv' := [(4, .int v2), (0, .ref (wa w 37)), (1, .int l1), (2, .int l2), (3, .ref (wG w 1 5))]) hx hb dX0_goes_58 hl (by decide) rfl (fun ls hl => ?_)
    refine lv_iload_n hx hb dX0_goes_60 rfl (lv_at hl 3 rfl) ?_
    refine lv_iconst (v := 1) hx hb dX0_goes_61 (by decide) ?_
    refine b_iceq (tgt := 82) hx hb hf dX0_goes_62 (by decide) (fun hf => ?_) (fun hf => ?_)
    · refine lv_iconst (v := (-1)) hx hb dX0_goes_82 (by decide) ?_
      refine lv_istore (lv' := [(5, .int (-1)), (4, .int v2), (0, .ref (wa w 37)), (1, .int l1), (2, .int l2), (3, .ref (wG w 1 5))]) hx hb dX0_goes_83 hl (by decide) rfl (fun ls hl => ?_)
      refine lv_iconst (v := 0) hx hb dX0_goes_85 (by decide) ?_
      refine lv_istore (lv' := [(6, .int 0), (5, .int (-1)), (4, .int v2), (0, .ref (wa w 37)), (1, .int l1), (2, .int l2), (3, .ref (wG w 1 5))]) hx hb dX0_goes_86 hl (by decide) rfl (fun ls hl => ?_)
      exact w_fT_goes_b88 C N x1 v2 (-1) 0 _ _ _ hI (lv_sub hl [3, 6, 2, 1, 0] rfl) hf
    · refine lv_iload_n hx hb dX0_goes_65 rfl (lv_at hl 3 rfl) ?_
      refine b_ifne (tgt := 77) hx hb hf dX0_goes_66 (by decide) (fun hf => ?_) (fun hf => ?_)
      · refine lv_aload_n hx hb dX0_goes_77 rfl (lv_at hl 4 rfl) ?_
        refine tgX0_511 C hI (tI.l3 hI (by decide)) dX0_goes_78 ?_
        exact t_iret C hI hf dX0_goes_81
      · refine lv_iload hx hb dX0_goes_69 (lv_at hl 0 rfl) ?_
        refine g_calliS (rest := []) C.1 hf (smJi_bitCount l N _) cqT_Ji_bitCount ⟨rfl, rfl⟩ ⟨Nat.le_of_ble_eq_true rfl, Nat.le_of_ble_eq_true rfl⟩ rfl hl.1 rfl (Nat.le_of_ble_eq_true rfl) (t_room hI) dX0_goes_71 (fun v3 hf => ?_)
        refine lv_goto (tgt := 81) hx hb dX0_goes_74 (by decide) ?_
        exact t_iret C hI hf dX0_goes_81
  · refine lv_aload_n hx hb dX0_goes_43 rfl (lv_at hl 3 rfl) ?_
    refine t_cVi (rest := []) C hI hf (tmC_goesBy l N B (tI.l3 hI (by decide)) _) (rv_chain C hI (tI.l3 hI (by decide))) cqX0_C_goesBy ⟨Nat.le_of_ble_eq_true rfl, Nat.le_of_ble_eq_true rfl⟩ rfl hl.1 rfl (Nat.le_of_ble_eq_true rfl) dX0_goes_44 (fun v5 x4 H locs hI hf => ?_)
    refine lv_pop hx hb dX0_goes_47 rfl ?_
    refine lv_iinc (v := l4 + 1) (lv' := [(4, .int (l4 + 1)), (0, .ref (wa w 37)), (1, .int l1), (2, .int l2), (3, .ref (wG w 1 5))]) hx hb dX0_goes_48 hl (k := 4) rfl rfl (by decide) rfl (fun ls hl => ?_)
    refine lv_goto (tgt := 37) hx hb dX0_goes_51 (by decide) ?_
    exact ih x4 l1 l2 (l4 + 1) _ _ _ hI (lv_sub hl [1, 2, 3, 4, 0] rfl) hf
def fT_goes (N : Nat) (B : Nat × Nat) (x : TS) (l1 : Int32) (l2 : Int32) : Option (Int32 × TS) :=
  (fT_isIn N l1 1 99).bind fun v1 =>
  if v1 = 0 then
    some ((-2), x)
  else
    (fT_isIn N l2 0 2).bind fun v2 =>
    if v2 = 0 then
      some ((-2), x)
    else
      (fC_thinks N B x 1 0).bind fun x3 =>
      fT_goes_b37 N B N x3 l1 l2 0
theorem tmT_goes (l : Launch) (N : Nat) {w : tO} {A : Nat → Prop} (B : Nat × Nat) : ∀ (x : TS) (l1 : Int32) (l2 : Int32) (r : Int32) (xr : TS), fT_goes N B x l1 l2 = some (r, xr) → tMet l yX0_goes (ws_ yX0_goes cX0_goes 7 (some .int)) frT_goes loT_goes [.ref (wa w 37), .int l1, .int l2] w A B x (some (.int r)) xr := by
  intro x l1 l2 r xr hf
  refine t_start (cc := cX0_goes) (own := RX0) (by decide +kernel) rfl (Nat.le_of_ble_eq_true rfl) rfl ?_
  intro p e s m args below meth c ls H locs C hmn hI hl
  have hx := C.1.1
  have hb := C.1.2.1
  have hown := C.1.2.2.2.1
  have hts := C.1.2.2.2.2.1
  have hE := C.2.2
  rw [fT_goes] at hf
  refine lv_iload_n hx hb dX0_goes_0 rfl (lv_at hl 1 rfl) ?_
  refine lv_iconst (v := 1) hx hb dX0_goes_1 (by decide) ?_
  refine lv_bipush (v := 99) hx hb dX0_goes_2 (by decide) ?_
  refine g_calliS (rest := []) C.1 hf (smT_isIn l N _ _ _) cqT_T_isIn ⟨rfl, rfl⟩ ⟨Nat.le_of_ble_eq_true rfl, Nat.le_of_ble_eq_true rfl⟩ rfl hl.1 rfl (Nat.le_of_ble_eq_true rfl) (t_room hI) dX0_goes_4 (fun v1 hf => ?_)
  refine b_ifeq (tgt := 19) hx hb hf dX0_goes_7 (by decide) (fun hf => ?_) (fun hf => ?_)
  · refine lv_bipush (v := (-2)) hx hb dX0_goes_19 (by decide) ?_
    exact t_iret C hI hf dX0_goes_21
  · refine lv_iload_n hx hb dX0_goes_10 rfl (lv_at hl 2 rfl) ?_
    refine lv_iconst (v := 0) hx hb dX0_goes_11 (by decide) ?_
    refine lv_iconst (v := 2) hx hb dX0_goes_12 (by decide) ?_
    refine g_calliS (rest := []) C.1 hf (smT_isIn l N _ _ _) cqT_T_isIn ⟨rfl, rfl⟩ ⟨Nat.le_of_ble_eq_true rfl, Nat.le_of_ble_eq_true rfl⟩ rfl hl.1 rfl (Nat.le_of_ble_eq_true rfl) (t_room hI) dX0_goes_13 (fun v2 hf => ?_)
    refine b_ifne (tgt := 22) hx hb hf dX0_goes_16 (by decide) (fun hf => ?_) (fun hf => ?_)
    · refine lv_aload_n hx hb dX0_goes_22 rfl (lv_at hl 0 rfl) ?_
      refine tgX0_156 C hI dX0_goes_23 ?_
      refine lv_aload_n hx hb dX0_goes_26 rfl (lv_at hl 0 rfl) ?_
      refine tgX0_152 C hI dX0_goes_27 ?_
      refine t_cVw (rest := []) C hI hf (tmC_thinks l N B (tI.l3 hI (by decide)) (tI.l3 hI (by decide)) _) (rv_chain C hI (tI.l3 hI (by decide))) cqX0_C_thinks ⟨Nat.le_of_ble_eq_true rfl, Nat.le_of_ble_eq_true rfl⟩ rfl hl.1 rfl (Nat.le_of_ble_eq_true rfl) dX0_goes_30 (fun x3 H locs hI hf => ?_)
      refine lv_astore_n (lv' := [(3, .ref (wG w 1 5)), (0, .ref (wa w 37)), (1, .int l1), (2, .int l2)]) hx hb dX0_goes_33 rfl hl (by decide) rfl (fun ls hl => ?_)
      refine lv_iconst (v := 0) hx hb dX0_goes_34 (by decide) ?_
      refine lv_istore (lv' := [(4, .int 0), (3, .ref (wG w 1 5)), (0, .ref (wa w 37)), (1, .int l1), (2, .int l2)]) hx hb dX0_goes_35 hl (by decide) rfl (fun ls hl => ?_)
      exact w_fT_goes_b37 C N x3 l1 l2 0 _ _ _ hI (lv_sub hl [2, 3, 4, 1, 0] rfl) hf
    · refine lv_bipush (v := (-2)) hx hb dX0_goes_19 (by decide) ?_
      exact t_iret C hI hf dX0_goes_21
/-! TwelveChain.oddsOf(II)I -/
abbrev frT_oddsOf : Nat := 405
abbrev loT_oddsOf : Nat := 12128
def fT_oddsOf (N : Nat) (B : Nat × Nat) (x : TS) (l1 : Int32) (l2 : Int32) : Option (Int32 × TS) :=
  (fT_has N (tF x 0 6) l1).bind fun v1 =>
  if v1 = 0 then
    (fT_has N (tF x 0 5) l1).bind fun v2 =>
    if v2 = 0 then
      b2 (fC_readyOf N B x 0 l1) fun v4 x3 =>
      (fT_readyBy N v4 l2).bind fun v5 =>
      some (v5, x3)
    else
      some (1000000, x)
  else
    some (0, x)
theorem tmT_oddsOf (l : Launch) (N : Nat) {w : tO} {A : Nat → Prop} (B : Nat × Nat) : ∀ (x : TS) (l1 : Int32) (l2 : Int32) (r : Int32) (xr : TS), fT_oddsOf N B x l1 l2 = some (r, xr) → tMet l yX0_oddsOf (ws_ yX0_oddsOf cX0_oddsOf 3 (some .int)) frT_oddsOf loT_oddsOf [.ref (wa w 37), .int l1, .int l2] w A B x (some (.int r)) xr := by
  intro x l1 l2 r xr hf
  refine t_start (cc := cX0_oddsOf) (own := RX0) (by decide +kernel) rfl (Nat.le_of_ble_eq_true rfl) rfl ?_
  intro p e s m args below meth c ls H locs C hmn hI hl
  have hx := C.1.1
  have hb := C.1.2.1
  have hown := C.1.2.2.2.1
  have hts := C.1.2.2.2.2.1
  have hE := C.2.2
  rw [fT_oddsOf] at hf
  refine lv_aload_n hx hb dX0_oddsOf_0 rfl (lv_at hl 0 rfl) ?_
  refine tgX0_152 C hI dX0_oddsOf_1 ?_
  refine tgX0_417 C hI (tI.l3 hI (by decide)) dX0_oddsOf_4 ?_
  refine lv_iload_n hx hb dX0_oddsOf_7 rfl (lv_at hl 1 rfl) ?_
  refine g_calliS (rest := []) C.1 hf (smT_has l N _ _) cqT_T_has ⟨rfl, rfl⟩ ⟨Nat.le_of_ble_eq_true rfl, Nat.le_of_ble_eq_true rfl⟩ rfl hl.1 rfl (Nat.le_of_ble_eq_true rfl) (t_room hI) dX0_oddsOf_8 (fun v1 hf => ?_)
  refine b_ifeq (tgt := 18) hx hb hf dX0_oddsOf_11 (by decide) (fun hf => ?_) (fun hf => ?_)
  · refine lv_aload_n hx hb dX0_oddsOf_18 rfl (lv_at hl 0 rfl) ?_
    refine tgX0_152 C hI dX0_oddsOf_19 ?_
    refine tgX0_415 C hI (tI.l3 hI (by decide)) dX0_oddsOf_22 ?_
    refine lv_iload_n hx hb dX0_oddsOf_25 rfl (lv_at hl 1 rfl) ?_
    refine g_calliS (rest := []) C.1 hf (smT_has l N _ _) cqT_T_has ⟨rfl, rfl⟩ ⟨Nat.le_of_ble_eq_true rfl, Nat.le_of_ble_eq_true rfl⟩ rfl hl.1 rfl (Nat.le_of_ble_eq_true rfl) (t_room hI) dX0_oddsOf_26 (fun v2 hf => ?_)
    refine b_ifeq (tgt := 38) hx hb hf dX0_oddsOf_29 (by decide) (fun hf => ?_) (fun hf => ?_)
    · refine lv_aload_n hx hb dX0_oddsOf_38 rfl (lv_at hl 0 rfl) ?_
      refine tgX0_152 C hI dX0_oddsOf_39 ?_
      refine lv_iload_n hx hb dX0_oddsOf_42 rfl (lv_at hl 1 rfl) ?_
      refine t_cVi (rest := []) C hI hf (tmC_readyOf l N B (tI.l3 hI (by decide)) _ _) (rv_chain C hI (tI.l3 hI (by decide))) cqX0_C_readyOf ⟨Nat.le_of_ble_eq_true rfl, Nat.le_of_ble_eq_true rfl⟩ rfl hl.1 rfl (Nat.le_of_ble_eq_true rfl) dX0_oddsOf_43 (fun v4 x3 H locs hI hf => ?_)
      refine lv_iload_n hx hb dX0_oddsOf_46 rfl (lv_at hl 2 rfl) ?_
      refine g_calliS (rest := []) C.1 hf (smT_readyBy l N _ _) cqT_T_readyBy ⟨rfl, rfl⟩ ⟨Nat.le_of_ble_eq_true rfl, Nat.le_of_ble_eq_true rfl⟩ rfl hl.1 rfl (Nat.le_of_ble_eq_true rfl) (t_room hI) dX0_oddsOf_47 (fun v5 hf => ?_)
      exact t_iret C hI hf dX0_oddsOf_50
    · refine lv_ldcw hx hb hown (hts _ q1162) dX0_oddsOf_32 ?_
      refine lv_goto (tgt := 50) hx hb dX0_oddsOf_35 (by decide) ?_
      exact t_iret C hI hf dX0_oddsOf_50
  · refine lv_iconst (v := 0) hx hb dX0_oddsOf_14 (by decide) ?_
    refine lv_goto (tgt := 50) hx hb dX0_oddsOf_15 (by decide) ?_
    exact t_iret C hI hf dX0_oddsOf_50
/-! TwelveChain.oddsFrom(III)I -/
abbrev frT_oddsFrom : Nat := 406
abbrev loT_oddsFrom : Nat := 12150
def fT_oddsFrom_b8 (N : Nat) (B : Nat × Nat) : Nat → TS → Int32 → Int32 → Int32 → Int32 → Option (Int32 × TS)
  | 0, _, _, _, _, _ => none
  | n + 1, x, l2, l3, l4, l5 =>
  if l2 < l5 then
    some (l4, x)
  else
    b2 (fT_oddsOf N B x l5 l3) fun v2 x1 =>
    (fT_partOf N l4 v2 1000000).bind fun v3 =>
    fT_oddsFrom_b8 N B n x1 l2 l3 v3 (l5 + 1)
theorem w_fT_oddsFrom_b8 {N : Nat} {B : Nat × Nat} {r : Int32} {xr : TS} (C : tCx w A p s m args meth c cX0_oddsFrom 6 RX0 (some .int)) : ∀ (n : Nat) (x : TS) (l2 : Int32) (l3 : Int32) (l4 : Int32) (l5 : Int32) (H : Heap) (locs : List Loc) (ls : Array Slot), tI w A B x s.heap H locs → lv_has ls 6 [(0, .ref (wa w 37)), (2, .int l2), (3, .int l3), (4, .int l4), (5, .int l5)] → fT_oddsFrom_b8 N B n x l2 l3 l4 l5 = some (r, xr) → W p l e (tRm B frT_oddsFrom loT_oddsFrom s.heap.size (SL s.heap)) s m args below meth c H locs (tZ x - s.heap.size) (tY x - SL s.heap) (MQ below (tQ w A B (some (.int r)) xr) args s (B.1 - s.heap.size) (B.2 - SL s.heap) A) (F0 m 8 ls []) := by
  have hx := C.1.1
  have hb := C.1.2.1
  have hown := C.1.2.2.2.1
  have hts := C.1.2.2.2.2.1
  have hE := C.2.2
  intro n
  induction n with
  | zero => intro x l2 l3 l4 l5 H locs ls hI hl hf; rw [fT_oddsFrom_b8] at hf; cases hf
  | succ n ih =>
  intro x l2 l3 l4 l5 H locs ls hI hl hf
  rw [fT_oddsFrom_b8] at hf
  refine lv_iload hx hb dX0_oddsFrom_8 (lv_at hl 4 rfl) ?_
  refine lv_iload_n hx hb dX0_oddsFrom_10 rfl (lv_at hl 1 rfl) ?_
  refine b_icgt (tgt := 37) hx hb hf dX0_oddsFrom_11 (by decide) (fun hf => ?_) (fun hf => ?_)
  · refine lv_iload hx hb dX0_oddsFrom_37 (lv_at hl 3 rfl) ?_
    exact t_iret C hI hf dX0_oddsFrom_39
  · refine lv_iload hx hb dX0_oddsFrom_14 (lv_at hl 3 rfl) ?_
    refine lv_aload_n hx hb dX0_oddsFrom_16 rfl (lv_at hl 0 rfl) ?_
    refine lv_iload hx hb dX0_oddsFrom_17 (lv_at hl 4 rfl) ?_
    refine lv_iload_n hx hb dX0_oddsFrom_19 rfl (lv_at hl 2 rfl) ?_
    refine t_cVi (rest := [.int l4]) C hI hf (tmT_oddsOf l N B _ _ _) (rv_main C hI) cqX0_T_oddsOf ⟨Nat.le_of_ble_eq_true rfl, Nat.le_of_ble_eq_true rfl⟩ rfl hl.1 rfl (Nat.le_of_ble_eq_true rfl) dX0_oddsFrom_20 (fun v2 x1 H locs hI hf => ?_)
    refine lv_ldcw hx hb hown (hts _ q1162) dX0_oddsFrom_23 ?_
    refine g_calliS (rest := []) C.1 hf (smT_partOf l N _ _ _) cqT_T_partOf ⟨rfl, rfl⟩ ⟨Nat.le_of_ble_eq_true rfl, Nat.le_of_ble_eq_true rfl⟩ rfl hl.1 rfl (Nat.le_of_ble_eq_true rfl) (t_room hI) dX0_oddsFrom_26 (fun v3 hf => ?_)
    refine lv_istore (lv' := [(4, .int v3), (0, .ref (wa w 37)), (2, .int l2), (3, .int l3), (5, .int l5)]) hx hb dX0_oddsFrom_29 hl (by decide) rfl (fun ls hl => ?_)
    refine lv_iinc (v := l5 + 1) (lv' := [(5, .int (l5 + 1)), (4, .int v3), (0, .ref (wa w 37)), (2, .int l2), (3, .int l3)]) hx hb dX0_oddsFrom_31 hl (k := 4) rfl rfl (by decide) rfl (fun ls hl => ?_)
    refine lv_goto (tgt := 8) hx hb dX0_oddsFrom_34 (by decide) ?_
    exact ih x1 l2 l3 v3 (l5 + 1) _ _ _ hI (lv_sub hl [2, 3, 4, 1, 0] rfl) hf
def fT_oddsFrom (N : Nat) (B : Nat × Nat) (x : TS) (l1 : Int32) (l2 : Int32) (l3 : Int32) : Option (Int32 × TS) :=
  fT_oddsFrom_b8 N B N x l2 l3 1000000 l1
theorem tmT_oddsFrom (l : Launch) (N : Nat) {w : tO} {A : Nat → Prop} (B : Nat × Nat) : ∀ (x : TS) (l1 : Int32) (l2 : Int32) (l3 : Int32) (r : Int32) (xr : TS), fT_oddsFrom N B x l1 l2 l3 = some (r, xr) → tMet l yX0_oddsFrom (ws_ yX0_oddsFrom cX0_oddsFrom 6 (some .int)) frT_oddsFrom loT_oddsFrom [.ref (wa w 37), .int l1, .int l2, .int l3] w A B x (some (.int r)) xr := by
  intro x l1 l2 l3 r xr hf
  refine t_start (cc := cX0_oddsFrom) (own := RX0) (by decide +kernel) rfl (Nat.le_of_ble_eq_true rfl) rfl ?_
  intro p e s m args below meth c ls H locs C hmn hI hl
  have hx := C.1.1
  have hb := C.1.2.1
  have hown := C.1.2.2.2.1
  have hts := C.1.2.2.2.2.1
  have hE := C.2.2
  rw [fT_oddsFrom] at hf
  refine lv_ldcw hx hb hown (hts _ q1162) dX0_oddsFrom_0 ?_
  refine lv_istore (lv' := [(4, .int 1000000), (0, .ref (wa w 37)), (1, .int l1), (2, .int l2), (3, .int l3)]) hx hb dX0_oddsFrom_3 hl (by decide) rfl (fun ls hl => ?_)
  refine lv_iload_n hx hb dX0_oddsFrom_5 rfl (lv_at hl 2 rfl) ?_
  refine lv_istore (lv' := [(5, .int l1), (4, .int 1000000), (0, .ref (wa w 37)), (1, .int l1), (2, .int l2), (3, .int l3)]) hx hb dX0_oddsFrom_6 hl (by decide) rfl (fun ls hl => ?_)
  exact w_fT_oddsFrom_b8 C N x l2 l3 1000000 l1 _ _ _ hI (lv_sub hl [2, 4, 5, 1, 0] rfl) hf
/-! TwelveChain.odds(I)I -/
abbrev frT_odds : Nat := 407
abbrev loT_odds : Nat := 12175
def fT_odds (N : Nat) (B : Nat × Nat) (x : TS) (l1 : Int32) : Option (Int32 × TS) :=
  (fT_isIn N l1 1 60).bind fun v1 =>
  if v1 = 0 then
    some ((-1), x)
  else
    b2 (fT_oddsFrom N B x 0 ((tS x 21) - 1) l1) fun v3 x2 =>
    some (v3, x2)
theorem tmT_odds (l : Launch) (N : Nat) {w : tO} {A : Nat → Prop} (B : Nat × Nat) : ∀ (x : TS) (l1 : Int32) (r : Int32) (xr : TS), fT_odds N B x l1 = some (r, xr) → tMet l yX0_odds (ws_ yX0_odds cX0_odds 2 (some .int)) frT_odds loT_odds [.ref (wa w 37), .int l1] w A B x (some (.int r)) xr := by
  intro x l1 r xr hf
  refine t_start (cc := cX0_odds) (own := RX0) (by decide +kernel) rfl (Nat.le_of_ble_eq_true rfl) rfl ?_
  intro p e s m args below meth c ls H locs C hmn hI hl
  have hx := C.1.1
  have hb := C.1.2.1
  have hown := C.1.2.2.2.1
  have hts := C.1.2.2.2.2.1
  have hE := C.2.2
  rw [fT_odds] at hf
  refine lv_iload_n hx hb dX0_odds_0 rfl (lv_at hl 1 rfl) ?_
  refine lv_iconst (v := 1) hx hb dX0_odds_1 (by decide) ?_
  refine lv_bipush (v := 60) hx hb dX0_odds_2 (by decide) ?_
  refine g_calliS (rest := []) C.1 hf (smT_isIn l N _ _ _) cqT_T_isIn ⟨rfl, rfl⟩ ⟨Nat.le_of_ble_eq_true rfl, Nat.le_of_ble_eq_true rfl⟩ rfl hl.1 rfl (Nat.le_of_ble_eq_true rfl) (t_room hI) dX0_odds_4 (fun v1 hf => ?_)
  refine b_ifeq (tgt := 25) hx hb hf dX0_odds_7 (by decide) (fun hf => ?_) (fun hf => ?_)
  · refine lv_iconst (v := (-1)) hx hb dX0_odds_25 (by decide) ?_
    exact t_iret C hI hf dX0_odds_26
  · refine lv_aload_n hx hb dX0_odds_10 rfl (lv_at hl 0 rfl) ?_
    refine lv_iconst (v := 0) hx hb dX0_odds_11 (by decide) ?_
    refine lv_aload_n hx hb dX0_odds_12 rfl (lv_at hl 0 rfl) ?_
    refine tgX0_346 C hI dX0_odds_13 ?_
    refine lv_iconst (v := 1) hx hb dX0_odds_16 (by decide) ?_
    refine lv_isub hx hb dX0_odds_17 ?_
    refine lv_iload_n hx hb dX0_odds_18 rfl (lv_at hl 1 rfl) ?_
    refine t_cVi (rest := []) C hI hf (tmT_oddsFrom l N B _ _ _ _) (rv_main C hI) cqX0_T_oddsFrom ⟨Nat.le_of_ble_eq_true rfl, Nat.le_of_ble_eq_true rfl⟩ rfl hl.1 rfl (Nat.le_of_ble_eq_true rfl) dX0_odds_19 (fun v3 x2 H locs hI hf => ?_)
    refine lv_goto (tgt := 26) hx hb dX0_odds_22 (by decide) ?_
    exact t_iret C hI hf dX0_odds_26
/-! TwelveChain.holds(II)I -/
abbrev frT_holds : Nat := 406
abbrev loT_holds : Nat := 12150
def fT_holds_b26 (N : Nat) (B : Nat × Nat) : Nat → TS → Int32 → Int32 → Int32 → Int32 → Option (Int32 × TS)
  | 0, _, _, _, _, _ => none
  | n + 1, x, l1, l2, l3, l4 =>
  if (tS x 21) ≤ l4 then
    if l3 = (-1) then
      some (l3, x)
    else
      if l2 = 0 then
        some (l3, x)
      else
        b2 (fT_oddsOf N B x l3 l1) fun v2 x1 =>
        some (v2, x1)
  else
    (fT_has N (tF x 0 5) l4).bind fun v3 =>
    if v3 = 0 then
      if l3 = (-1) then
        fT_holds_b26 N B n x l1 l2 l4 (l4 + 1)
      else
        b2 (fT_oddsOf N B x l4 l1) fun v5 x4 =>
        b2 (fT_oddsOf N B x4 l3 l1) fun v7 x6 =>
        if v7 ≤ v5 then
          fT_holds_b26 N B n x6 l1 l2 l3 (l4 + 1)
        else
          fT_holds_b26 N B n x6 l1 l2 l4 (l4 + 1)
    else
      fT_holds_b26 N B n x l1 l2 l3 (l4 + 1)
theorem w_fT_holds_b26 {N : Nat} {B : Nat × Nat} {r : Int32} {xr : TS} (C : tCx w A p s m args meth c cX0_holds 5 RX0 (some .int)) : ∀ (n : Nat) (x : TS) (l1 : Int32) (l2 : Int32) (l3 : Int32) (l4 : Int32) (H : Heap) (locs : List Loc) (ls : Array Slot), tI w A B x s.heap H locs → lv_has ls 5 [(0, .ref (wa w 37)), (1, .int l1), (2, .int l2), (3, .int l3), (4, .int l4)] → fT_holds_b26 N B n x l1 l2 l3 l4 = some (r, xr) → W p l e (tRm B frT_holds loT_holds s.heap.size (SL s.heap)) s m args below meth c H locs (tZ x - s.heap.size) (tY x - SL s.heap) (MQ below (tQ w A B (some (.int r)) xr) args s (B.1 - s.heap.size) (B.2 - SL s.heap) A) (F0 m 26 ls []) := by
  have hx := C.1.1
  have hb := C.1.2.1
  have hown := C.1.2.2.2.1
  have hts := C.1.2.2.2.2.1
  have hE := C.2.2
  intro n
  induction n with
  | zero => intro x l1 l2 l3 l4 H locs ls hI hl hf; rw [fT_holds_b26] at hf; cases hf
  | succ n ih =>
  intro x l1 l2 l3 l4 H locs ls hI hl hf
  rw [fT_holds_b26] at hf
  refine lv_iload hx hb dX0_holds_26 (lv_at hl 4 rfl) ?_
  refine lv_aload_n hx hb dX0_holds_28 rfl (lv_at hl 0 rfl) ?_
  refine tgX0_346 C hI dX0_holds_29 ?_
  refine b_icge (tgt := 80) hx hb hf dX0_holds_32 (by decide) (fun hf => ?_) (fun hf => ?_)
  · refine lv_iload_n hx hb dX0_holds_80 rfl (lv_at hl 3 rfl) ?_
    refine lv_iconst (v := (-1)) hx hb dX0_holds_81 (by decide) ?_
    refine b_iceq (tgt := 89) hx hb hf dX0_holds_82 (by decide) (fun hf => ?_) (fun hf => ?_)
    · refine lv_iload_n hx hb dX0_holds_89 rfl (lv_at hl 3 rfl) ?_
      refine lv_goto (tgt := 99) hx hb dX0_holds_90 (by decide) ?_
      exact t_iret C hI hf dX0_holds_99
    · refine lv_iload_n hx hb dX0_holds_85 rfl (lv_at hl 2 rfl) ?_
      refine b_ifne (tgt := 93) hx hb hf dX0_holds_86 (by decide) (fun hf => ?_) (fun hf => ?_)
      · refine lv_aload_n hx hb dX0_holds_93 rfl (lv_at hl 0 rfl) ?_
        refine lv_iload_n hx hb dX0_holds_94 rfl (lv_at hl 3 rfl) ?_
        refine lv_iload_n hx hb dX0_holds_95 rfl (lv_at hl 1 rfl) ?_
        refine t_cVi (rest := []) C hI hf (tmT_oddsOf l N B _ _ _) (rv_main C hI) cqX0_T_oddsOf ⟨Nat.le_of_ble_eq_true rfl, Nat.le_of_ble_eq_true rfl⟩ rfl hl.1 rfl (Nat.le_of_ble_eq_true rfl) dX0_holds_96 (fun v2 x1 H locs hI hf => ?_)
        exact t_iret C hI hf dX0_holds_99
      · refine lv_iload_n hx hb dX0_holds_89 rfl (lv_at hl 3 rfl) ?_
        refine lv_goto (tgt := 99) hx hb dX0_holds_90 (by decide) ?_
        exact t_iret C hI hf dX0_holds_99
  · refine lv_aload_n hx hb dX0_holds_35 rfl (lv_at hl 0 rfl) ?_
    refine tgX0_152 C hI dX0_holds_36 ?_
    refine tgX0_415 C hI (tI.l3 hI (by decide)) dX0_holds_39 ?_
    refine lv_iload hx hb dX0_holds_42 (lv_at hl 4 rfl) ?_
    refine g_calliS (rest := []) C.1 hf (smT_has l N _ _) cqT_T_has ⟨rfl, rfl⟩ ⟨Nat.le_of_ble_eq_true rfl, Nat.le_of_ble_eq_true rfl⟩ rfl hl.1 rfl (Nat.le_of_ble_eq_true rfl) (t_room hI) dX0_holds_44 (fun v3 hf => ?_)
    refine b_ifne (tgt := 74) hx hb hf dX0_holds_47 (by decide) (fun hf => ?_) (fun hf => ?_)
    · refine lv_iinc (v := l4 + 1) (lv' := [(4, .int (l4 + 1)), (0, .ref (wa w 37)), (1, .int l1), (2, .int l2), (3, .int l3)]) hx hb dX0_holds_74 hl (k := 4) rfl rfl (by decide) rfl (fun ls hl => ?_)
      refine lv_goto (tgt := 26) hx hb dX0_holds_77 (by decide) ?_
      exact ih x l1 l2 l3 (l4 + 1) _ _ _ hI (lv_sub hl [1, 2, 3, 4, 0] rfl) hf
    · refine lv_iload_n hx hb dX0_holds_50 rfl (lv_at hl 3 rfl) ?_
      refine lv_iconst (v := (-1)) hx hb dX0_holds_51 (by decide) ?_
      refine b_iceq (tgt := 71) hx hb hf dX0_holds_52 (by decide) (fun hf => ?_) (fun hf => ?_)
      · refine lv_iload hx hb dX0_holds_71 (lv_at hl 4 rfl) ?_
        refine lv_istore_n (lv' := [(3, .int l4), (0, .ref (wa w 37)), (1, .int l1), (2, .int l2), (4, .int l4)]) hx hb dX0_holds_73 rfl hl (by decide) rfl (fun ls hl => ?_)
        refine lv_iinc (v := l4 + 1) (lv' := [(4, .int (l4 + 1)), (3, .int l4), (0, .ref (wa w 37)), (1, .int l1), (2, .int l2)]) hx hb dX0_holds_74 hl (k := 4) rfl rfl (by decide) rfl (fun ls hl => ?_)
        refine lv_goto (tgt := 26) hx hb dX0_holds_77 (by decide) ?_
        exact ih x l1 l2 l4 (l4 + 1) _ _ _ hI (lv_sub hl [2, 3, 4, 1, 0] rfl) hf
      · refine lv_aload_n hx hb dX0_holds_55 rfl (lv_at hl 0 rfl) ?_
        refine lv_iload hx hb dX0_holds_56 (lv_at hl 4 rfl) ?_
        refine lv_iload_n hx hb dX0_holds_58 rfl (lv_at hl 1 rfl) ?_
        refine t_cVi (rest := []) C hI hf (tmT_oddsOf l N B _ _ _) (rv_main C hI) cqX0_T_oddsOf ⟨Nat.le_of_ble_eq_true rfl, Nat.le_of_ble_eq_true rfl⟩ rfl hl.1 rfl (Nat.le_of_ble_eq_true rfl) dX0_holds_59 (fun v5 x4 H locs hI hf => ?_)
        refine lv_aload_n hx hb dX0_holds_62 rfl (lv_at hl 0 rfl) ?_
        refine lv_iload_n hx hb dX0_holds_63 rfl (lv_at hl 3 rfl) ?_
        refine lv_iload_n hx hb dX0_holds_64 rfl (lv_at hl 1 rfl) ?_
        refine t_cVi (rest := [.int v5]) C hI hf (tmT_oddsOf l N B _ _ _) (rv_main C hI) cqX0_T_oddsOf ⟨Nat.le_of_ble_eq_true rfl, Nat.le_of_ble_eq_true rfl⟩ rfl hl.1 rfl (Nat.le_of_ble_eq_true rfl) dX0_holds_65 (fun v7 x6 H locs hI hf => ?_)
        refine b_icge (tgt := 74) hx hb hf dX0_holds_68 (by decide) (fun hf => ?_) (fun hf => ?_)
        · refine lv_iinc (v := l4 + 1) (lv' := [(4, .int (l4 + 1)), (0, .ref (wa w 37)), (1, .int l1), (2, .int l2), (3, .int l3)]) hx hb dX0_holds_74 hl (k := 4) rfl rfl (by decide) rfl (fun ls hl => ?_)
          refine lv_goto (tgt := 26) hx hb dX0_holds_77 (by decide) ?_
          exact ih x6 l1 l2 l3 (l4 + 1) _ _ _ hI (lv_sub hl [1, 2, 3, 4, 0] rfl) hf
        · refine lv_iload hx hb dX0_holds_71 (lv_at hl 4 rfl) ?_
          refine lv_istore_n (lv' := [(3, .int l4), (0, .ref (wa w 37)), (1, .int l1), (2, .int l2), (4, .int l4)]) hx hb dX0_holds_73 rfl hl (by decide) rfl (fun ls hl => ?_)
          refine lv_iinc (v := l4 + 1) (lv' := [(4, .int (l4 + 1)), (3, .int l4), (0, .ref (wa w 37)), (1, .int l1), (2, .int l2)]) hx hb dX0_holds_74 hl (k := 4) rfl rfl (by decide) rfl (fun ls hl => ?_)
          refine lv_goto (tgt := 26) hx hb dX0_holds_77 (by decide) ?_
          exact ih x6 l1 l2 l4 (l4 + 1) _ _ _ hI (lv_sub hl [2, 3, 4, 1, 0] rfl) hf
def fT_holds (N : Nat) (B : Nat × Nat) (x : TS) (l1 : Int32) (l2 : Int32) : Option (Int32 × TS) :=
  (fT_isIn N l1 1 60).bind fun v1 =>
  if v1 = 0 then
    some ((-1), x)
  else
    (fT_isIn N l2 0 1).bind fun v2 =>
    if v2 = 0 then
      some ((-1), x)
    else
      fT_holds_b26 N B N x l1 l2 (-1) 0
theorem tmT_holds (l : Launch) (N : Nat) {w : tO} {A : Nat → Prop} (B : Nat × Nat) : ∀ (x : TS) (l1 : Int32) (l2 : Int32) (r : Int32) (xr : TS), fT_holds N B x l1 l2 = some (r, xr) → tMet l yX0_holds (ws_ yX0_holds cX0_holds 5 (some .int)) frT_holds loT_holds [.ref (wa w 37), .int l1, .int l2] w A B x (some (.int r)) xr := by
  intro x l1 l2 r xr hf
  refine t_start (cc := cX0_holds) (own := RX0) (by decide +kernel) rfl (Nat.le_of_ble_eq_true rfl) rfl ?_
  intro p e s m args below meth c ls H locs C hmn hI hl
  have hx := C.1.1
  have hb := C.1.2.1
  have hown := C.1.2.2.2.1
  have hts := C.1.2.2.2.2.1
  have hE := C.2.2
  rw [fT_holds] at hf
  refine lv_iload_n hx hb dX0_holds_0 rfl (lv_at hl 1 rfl) ?_
  refine lv_iconst (v := 1) hx hb dX0_holds_1 (by decide) ?_
  refine lv_bipush (v := 60) hx hb dX0_holds_2 (by decide) ?_
  refine g_calliS (rest := []) C.1 hf (smT_isIn l N _ _ _) cqT_T_isIn ⟨rfl, rfl⟩ ⟨Nat.le_of_ble_eq_true rfl, Nat.le_of_ble_eq_true rfl⟩ rfl hl.1 rfl (Nat.le_of_ble_eq_true rfl) (t_room hI) dX0_holds_4 (fun v1 hf => ?_)
  refine b_ifeq (tgt := 19) hx hb hf dX0_holds_7 (by decide) (fun hf => ?_) (fun hf => ?_)
  · refine lv_iconst (v := (-1)) hx hb dX0_holds_19 (by decide) ?_
    exact t_iret C hI hf dX0_holds_20
  · refine lv_iload_n hx hb dX0_holds_10 rfl (lv_at hl 2 rfl) ?_
    refine lv_iconst (v := 0) hx hb dX0_holds_11 (by decide) ?_
    refine lv_iconst (v := 1) hx hb dX0_holds_12 (by decide) ?_
    refine g_calliS (rest := []) C.1 hf (smT_isIn l N _ _ _) cqT_T_isIn ⟨rfl, rfl⟩ ⟨Nat.le_of_ble_eq_true rfl, Nat.le_of_ble_eq_true rfl⟩ rfl hl.1 rfl (Nat.le_of_ble_eq_true rfl) (t_room hI) dX0_holds_13 (fun v2 hf => ?_)
    refine b_ifne (tgt := 21) hx hb hf dX0_holds_16 (by decide) (fun hf => ?_) (fun hf => ?_)
    · refine lv_iconst (v := (-1)) hx hb dX0_holds_21 (by decide) ?_
      refine lv_istore_n (lv' := [(3, .int (-1)), (0, .ref (wa w 37)), (1, .int l1), (2, .int l2)]) hx hb dX0_holds_22 rfl hl (by decide) rfl (fun ls hl => ?_)
      refine lv_iconst (v := 0) hx hb dX0_holds_23 (by decide) ?_
      refine lv_istore (lv' := [(4, .int 0), (3, .int (-1)), (0, .ref (wa w 37)), (1, .int l1), (2, .int l2)]) hx hb dX0_holds_24 hl (by decide) rfl (fun ls hl => ?_)
      exact w_fT_holds_b26 C N x l1 l2 (-1) 0 _ _ _ hI (lv_sub hl [2, 3, 4, 1, 0] rfl) hf
    · refine lv_iconst (v := (-1)) hx hb dX0_holds_19 (by decide) ?_
      exact t_iret C hI hf dX0_holds_20
/-! TwelveChain.areLikely(III)Z -/
abbrev frT_areLikely : Nat := 407
abbrev loT_areLikely : Nat := 12175
def fT_areLikely_b3 (N : Nat) (B : Nat × Nat) : Nat → TS → Int32 → Int32 → Int32 → Int32 → Option (Int32 × TS)
  | 0, _, _, _, _, _ => none
  | n + 1, x, l1, l2, l3, l4 =>
  if (tS x 21) ≤ l4 then
    some (1, x)
  else
    b2 (fC_beginsPart N B x 0 l4 l1) fun v2 x1 =>
    if v2 = 0 then
      fT_areLikely_b3 N B n x1 l1 l2 l3 (l4 + 1)
    else
      b2 (fC_endOf N B x1 0 l4 l1) fun v4 x3 =>
      b2 (fT_oddsFrom N B x3 l4 v4 l2) fun v6 x5 =>
      if l3 ≤ v6 then
        fT_areLikely_b3 N B n x5 l1 l2 l3 (l4 + 1)
      else
        some (0, x5)
theorem w_fT_areLikely_b3 {N : Nat} {B : Nat × Nat} {r : Int32} {xr : TS} (C : tCx w A p s m args meth c cX0_areLikely 5 RX0 (some .boolean)) : ∀ (n : Nat) (x : TS) (l1 : Int32) (l2 : Int32) (l3 : Int32) (l4 : Int32) (H : Heap) (locs : List Loc) (ls : Array Slot), tI w A B x s.heap H locs → lv_has ls 5 [(0, .ref (wa w 37)), (1, .int l1), (2, .int l2), (3, .int l3), (4, .int l4)] → fT_areLikely_b3 N B n x l1 l2 l3 l4 = some (r, xr) → W p l e (tRm B frT_areLikely loT_areLikely s.heap.size (SL s.heap)) s m args below meth c H locs (tZ x - s.heap.size) (tY x - SL s.heap) (MQ below (tQ w A B (some (.int r)) xr) args s (B.1 - s.heap.size) (B.2 - SL s.heap) A) (F0 m 3 ls []) := by
  have hx := C.1.1
  have hb := C.1.2.1
  have hown := C.1.2.2.2.1
  have hts := C.1.2.2.2.2.1
  have hE := C.2.2
  intro n
  induction n with
  | zero => intro x l1 l2 l3 l4 H locs ls hI hl hf; rw [fT_areLikely_b3] at hf; cases hf
  | succ n ih =>
  intro x l1 l2 l3 l4 H locs ls hI hl hf
  rw [fT_areLikely_b3] at hf
  refine lv_iload hx hb dX0_areLikely_3 (lv_at hl 4 rfl) ?_
  refine lv_aload_n hx hb dX0_areLikely_5 rfl (lv_at hl 0 rfl) ?_
  refine tgX0_346 C hI dX0_areLikely_6 ?_
  refine b_icge (tgt := 54) hx hb hf dX0_areLikely_9 (by decide) (fun hf => ?_) (fun hf => ?_)
  · refine lv_iconst (v := 1) hx hb dX0_areLikely_54 (by decide) ?_
    exact t_zretc C hI zb_1 hf dX0_areLikely_55
  · refine lv_aload_n hx hb dX0_areLikely_12 rfl (lv_at hl 0 rfl) ?_
    refine tgX0_152 C hI dX0_areLikely_13 ?_
    refine lv_iload hx hb dX0_areLikely_16 (lv_at hl 4 rfl) ?_
    refine lv_iload_n hx hb dX0_areLikely_18 rfl (lv_at hl 1 rfl) ?_
    refine t_cVi (rest := []) C hI hf (tmC_beginsPart l N B (tI.l3 hI (by decide)) _ _ _) (rv_chain C hI (tI.l3 hI (by decide))) cqX0_C_beginsPart ⟨Nat.le_of_ble_eq_true rfl, Nat.le_of_ble_eq_true rfl⟩ rfl hl.1 rfl (Nat.le_of_ble_eq_true rfl) dX0_areLikely_19 (fun v2 x1 H locs hI hf => ?_)
    refine b_ifeq (tgt := 48) hx hb hf dX0_areLikely_22 (by decide) (fun hf => ?_) (fun hf => ?_)
    · refine lv_iinc (v := l4 + 1) (lv' := [(4, .int (l4 + 1)), (0, .ref (wa w 37)), (1, .int l1), (2, .int l2), (3, .int l3)]) hx hb dX0_areLikely_48 hl (k := 4) rfl rfl (by decide) rfl (fun ls hl => ?_)
      refine lv_goto (tgt := 3) hx hb dX0_areLikely_51 (by decide) ?_
      exact ih x1 l1 l2 l3 (l4 + 1) _ _ _ hI (lv_sub hl [1, 2, 3, 4, 0] rfl) hf
    · refine lv_aload_n hx hb dX0_areLikely_25 rfl (lv_at hl 0 rfl) ?_
      refine lv_iload hx hb dX0_areLikely_26 (lv_at hl 4 rfl) ?_
      refine lv_aload_n hx hb dX0_areLikely_28 rfl (lv_at hl 0 rfl) ?_
      refine tgX0_152 C hI dX0_areLikely_29 ?_
      refine lv_iload hx hb dX0_areLikely_32 (lv_at hl 4 rfl) ?_
      refine lv_iload_n hx hb dX0_areLikely_34 rfl (lv_at hl 1 rfl) ?_
      refine t_cVi (rest := [.int l4, .ref (wa w 37)]) C hI hf (tmC_endOf l N B (tI.l3 hI (by decide)) _ _ _) (rv_chain C hI (tI.l3 hI (by decide))) cqX0_C_endOf ⟨Nat.le_of_ble_eq_true rfl, Nat.le_of_ble_eq_true rfl⟩ rfl hl.1 rfl (Nat.le_of_ble_eq_true rfl) dX0_areLikely_35 (fun v4 x3 H locs hI hf => ?_)
      refine lv_iload_n hx hb dX0_areLikely_38 rfl (lv_at hl 2 rfl) ?_
      refine t_cVi (rest := []) C hI hf (tmT_oddsFrom l N B _ _ _ _) (rv_main C hI) cqX0_T_oddsFrom ⟨Nat.le_of_ble_eq_true rfl, Nat.le_of_ble_eq_true rfl⟩ rfl hl.1 rfl (Nat.le_of_ble_eq_true rfl) dX0_areLikely_39 (fun v6 x5 H locs hI hf => ?_)
      refine lv_iload_n hx hb dX0_areLikely_42 rfl (lv_at hl 3 rfl) ?_
      refine b_icge (tgt := 48) hx hb hf dX0_areLikely_43 (by decide) (fun hf => ?_) (fun hf => ?_)
      · refine lv_iinc (v := l4 + 1) (lv' := [(4, .int (l4 + 1)), (0, .ref (wa w 37)), (1, .int l1), (2, .int l2), (3, .int l3)]) hx hb dX0_areLikely_48 hl (k := 4) rfl rfl (by decide) rfl (fun ls hl => ?_)
        refine lv_goto (tgt := 3) hx hb dX0_areLikely_51 (by decide) ?_
        exact ih x5 l1 l2 l3 (l4 + 1) _ _ _ hI (lv_sub hl [1, 2, 3, 4, 0] rfl) hf
      · refine lv_iconst (v := 0) hx hb dX0_areLikely_46 (by decide) ?_
        exact t_zretc C hI zb_0 hf dX0_areLikely_47
def fT_areLikely (N : Nat) (B : Nat × Nat) (x : TS) (l1 : Int32) (l2 : Int32) (l3 : Int32) : Option (Int32 × TS) :=
  fT_areLikely_b3 N B N x l1 l2 l3 0
theorem tmT_areLikely (l : Launch) (N : Nat) {w : tO} {A : Nat → Prop} (B : Nat × Nat) : ∀ (x : TS) (l1 : Int32) (l2 : Int32) (l3 : Int32) (r : Int32) (xr : TS), fT_areLikely N B x l1 l2 l3 = some (r, xr) → tMet l yX0_areLikely (ws_ yX0_areLikely cX0_areLikely 5 (some .boolean)) frT_areLikely loT_areLikely [.ref (wa w 37), .int l1, .int l2, .int l3] w A B x (some (.int r)) xr := by
  intro x l1 l2 l3 r xr hf
  refine t_start (cc := cX0_areLikely) (own := RX0) (by decide +kernel) rfl (Nat.le_of_ble_eq_true rfl) rfl ?_
  intro p e s m args below meth c ls H locs C hmn hI hl
  have hx := C.1.1
  have hb := C.1.2.1
  have hown := C.1.2.2.2.1
  have hts := C.1.2.2.2.2.1
  have hE := C.2.2
  rw [fT_areLikely] at hf
  refine lv_iconst (v := 0) hx hb dX0_areLikely_0 (by decide) ?_
  refine lv_istore (lv' := [(4, .int 0), (0, .ref (wa w 37)), (1, .int l1), (2, .int l2), (3, .int l3)]) hx hb dX0_areLikely_1 hl (by decide) rfl (fun ls hl => ?_)
  exact w_fT_areLikely_b3 C N x l1 l2 l3 0 _ _ _ hI (lv_sub hl [1, 2, 3, 4, 0] rfl) hf
/-! TwelveChain.costOf(II)I -/
abbrev frT_costOf : Nat := 405
abbrev loT_costOf : Nat := 12128
def fT_costOf_b5 (N : Nat) (B : Nat × Nat) : Nat → TS → Int32 → Int32 → Int32 → Int32 → Option (Int32 × TS)
  | 0, _, _, _, _, _ => none
  | n + 1, x, l1, l2, l3, l4 =>
  if (tS x 21) ≤ l4 then
    some (l3, x)
  else
    (fT_has N l1 l4).bind fun v1 =>
    if v1 = 0 then
      fT_costOf_b5 N B n x l1 l2 (l3 + 0) (l4 + 1)
    else
      b2 (fC_costOf N B x 0 l4) fun v3 x2 =>
      fT_costOf_b5 N B n x2 l1 l2 (l3 + (l2 * v3)) (l4 + 1)
theorem w_fT_costOf_b5 {N : Nat} {B : Nat × Nat} {r : Int32} {xr : TS} (C : tCx w A p s m args meth c cX0_costOf 5 RX0 (some .int)) : ∀ (n : Nat) (x : TS) (l1 : Int32) (l2 : Int32) (l3 : Int32) (l4 : Int32) (H : Heap) (locs : List Loc) (ls : Array Slot), tI w A B x s.heap H locs → lv_has ls 5 [(0, .ref (wa w 37)), (1, .int l1), (2, .int l2), (3, .int l3), (4, .int l4)] → fT_costOf_b5 N B n x l1 l2 l3 l4 = some (r, xr) → W p l e (tRm B frT_costOf loT_costOf s.heap.size (SL s.heap)) s m args below meth c H locs (tZ x - s.heap.size) (tY x - SL s.heap) (MQ below (tQ w A B (some (.int r)) xr) args s (B.1 - s.heap.size) (B.2 - SL s.heap) A) (F0 m 5 ls []) := by
  have hx := C.1.1
  have hb := C.1.2.1
  have hown := C.1.2.2.2.1
  have hts := C.1.2.2.2.2.1
  have hE := C.2.2
  intro n
  induction n with
  | zero => intro x l1 l2 l3 l4 H locs ls hI hl hf; rw [fT_costOf_b5] at hf; cases hf
  | succ n ih =>
  intro x l1 l2 l3 l4 H locs ls hI hl hf
  rw [fT_costOf_b5] at hf
  refine lv_iload hx hb dX0_costOf_5 (lv_at hl 4 rfl) ?_
  refine lv_aload_n hx hb dX0_costOf_7 rfl (lv_at hl 0 rfl) ?_
  refine tgX0_346 C hI dX0_costOf_8 ?_
  refine b_icge (tgt := 47) hx hb hf dX0_costOf_11 (by decide) (fun hf => ?_) (fun hf => ?_)
  · refine lv_iload_n hx hb dX0_costOf_47 rfl (lv_at hl 3 rfl) ?_
    exact t_iret C hI hf dX0_costOf_48
  · refine lv_iload_n hx hb dX0_costOf_14 rfl (lv_at hl 3 rfl) ?_
    refine lv_iload_n hx hb dX0_costOf_15 rfl (lv_at hl 1 rfl) ?_
    refine lv_iload hx hb dX0_costOf_16 (lv_at hl 4 rfl) ?_
    refine g_calliS (rest := [.int l3]) C.1 hf (smT_has l N _ _) cqT_T_has ⟨rfl, rfl⟩ ⟨Nat.le_of_ble_eq_true rfl, Nat.le_of_ble_eq_true rfl⟩ rfl hl.1 rfl (Nat.le_of_ble_eq_true rfl) (t_room hI) dX0_costOf_18 (fun v1 hf => ?_)
    refine b_ifeq (tgt := 38) hx hb hf dX0_costOf_21 (by decide) (fun hf => ?_) (fun hf => ?_)
    · refine lv_iconst (v := 0) hx hb dX0_costOf_38 (by decide) ?_
      refine lv_iadd hx hb dX0_costOf_39 ?_
      refine lv_istore_n (lv' := [(3, .int (l3 + 0)), (0, .ref (wa w 37)), (1, .int l1), (2, .int l2), (4, .int l4)]) hx hb dX0_costOf_40 rfl hl (by decide) rfl (fun ls hl => ?_)
      refine lv_iinc (v := l4 + 1) (lv' := [(4, .int (l4 + 1)), (3, .int (l3 + 0)), (0, .ref (wa w 37)), (1, .int l1), (2, .int l2)]) hx hb dX0_costOf_41 hl (k := 4) rfl rfl (by decide) rfl (fun ls hl => ?_)
      refine lv_goto (tgt := 5) hx hb dX0_costOf_44 (by decide) ?_
      exact ih x l1 l2 (l3 + 0) (l4 + 1) _ _ _ hI (lv_sub hl [2, 3, 4, 1, 0] rfl) hf
    · refine lv_iload_n hx hb dX0_costOf_24 rfl (lv_at hl 2 rfl) ?_
      refine lv_aload_n hx hb dX0_costOf_25 rfl (lv_at hl 0 rfl) ?_
      refine tgX0_152 C hI dX0_costOf_26 ?_
      refine lv_iload hx hb dX0_costOf_29 (lv_at hl 4 rfl) ?_
      refine t_cVi (rest := [.int l2, .int l3]) C hI hf (tmC_costOf l N B (tI.l3 hI (by decide)) _ _) (rv_chain C hI (tI.l3 hI (by decide))) cqX0_C_costOf ⟨Nat.le_of_ble_eq_true rfl, Nat.le_of_ble_eq_true rfl⟩ rfl hl.1 rfl (Nat.le_of_ble_eq_true rfl) dX0_costOf_31 (fun v3 x2 H locs hI hf => ?_)
      refine lv_imul hx hb dX0_costOf_34 ?_
      refine lv_goto (tgt := 39) hx hb dX0_costOf_35 (by decide) ?_
      refine lv_iadd hx hb dX0_costOf_39 ?_
      refine lv_istore_n (lv' := [(3, .int (l3 + (l2 * v3))), (0, .ref (wa w 37)), (1, .int l1), (2, .int l2), (4, .int l4)]) hx hb dX0_costOf_40 rfl hl (by decide) rfl (fun ls hl => ?_)
      refine lv_iinc (v := l4 + 1) (lv' := [(4, .int (l4 + 1)), (3, .int (l3 + (l2 * v3))), (0, .ref (wa w 37)), (1, .int l1), (2, .int l2)]) hx hb dX0_costOf_41 hl (k := 4) rfl rfl (by decide) rfl (fun ls hl => ?_)
      refine lv_goto (tgt := 5) hx hb dX0_costOf_44 (by decide) ?_
      exact ih x2 l1 l2 (l3 + (l2 * v3)) (l4 + 1) _ _ _ hI (lv_sub hl [2, 3, 4, 1, 0] rfl) hf
def fT_costOf (N : Nat) (B : Nat × Nat) (x : TS) (l1 : Int32) (l2 : Int32) : Option (Int32 × TS) :=
  fT_costOf_b5 N B N x l1 l2 0 0
theorem tmT_costOf (l : Launch) (N : Nat) {w : tO} {A : Nat → Prop} (B : Nat × Nat) : ∀ (x : TS) (l1 : Int32) (l2 : Int32) (r : Int32) (xr : TS), fT_costOf N B x l1 l2 = some (r, xr) → tMet l yX0_costOf (ws_ yX0_costOf cX0_costOf 5 (some .int)) frT_costOf loT_costOf [.ref (wa w 37), .int l1, .int l2] w A B x (some (.int r)) xr := by
  intro x l1 l2 r xr hf
  refine t_start (cc := cX0_costOf) (own := RX0) (by decide +kernel) rfl (Nat.le_of_ble_eq_true rfl) rfl ?_
  intro p e s m args below meth c ls H locs C hmn hI hl
  have hx := C.1.1
  have hb := C.1.2.1
  have hown := C.1.2.2.2.1
  have hts := C.1.2.2.2.2.1
  have hE := C.2.2
  rw [fT_costOf] at hf
  refine lv_iconst (v := 0) hx hb dX0_costOf_0 (by decide) ?_
  refine lv_istore_n (lv' := [(3, .int 0), (0, .ref (wa w 37)), (1, .int l1), (2, .int l2)]) hx hb dX0_costOf_1 rfl hl (by decide) rfl (fun ls hl => ?_)
  refine lv_iconst (v := 0) hx hb dX0_costOf_2 (by decide) ?_
  refine lv_istore (lv' := [(4, .int 0), (3, .int 0), (0, .ref (wa w 37)), (1, .int l1), (2, .int l2)]) hx hb dX0_costOf_3 hl (by decide) rfl (fun ls hl => ?_)
  exact w_fT_costOf_b5 C N x l1 l2 0 0 _ _ _ hI (lv_sub hl [2, 3, 4, 1, 0] rfl) hf
/-! TwelveChain.soon(I)I -/
abbrev frT_soon : Nat := 407
abbrev loT_soon : Nat := 12175
def fT_soon_b15 (N : Nat) (B : Nat × Nat) : Nat → TS → Int32 → Int32 → Option (Int32 × TS)
  | 0, _, _, _ => none
  | n + 1, x, l1, l2 =>
  if 60 < l2 then
    some ((-1), x)
  else
    b2 (fT_oddsFrom N B x 0 ((tS x 21) - 1) l2) fun v2 x1 =>
    if v2 < l1 then
      fT_soon_b15 N B n x1 l1 (l2 + 1)
    else
      some (l2, x1)
theorem w_fT_soon_b15 {N : Nat} {B : Nat × Nat} {r : Int32} {xr : TS} (C : tCx w A p s m args meth c cX0_soon 3 RX0 (some .int)) : ∀ (n : Nat) (x : TS) (l1 : Int32) (l2 : Int32) (H : Heap) (locs : List Loc) (ls : Array Slot), tI w A B x s.heap H locs → lv_has ls 3 [(0, .ref (wa w 37)), (1, .int l1), (2, .int l2)] → fT_soon_b15 N B n x l1 l2 = some (r, xr) → W p l e (tRm B frT_soon loT_soon s.heap.size (SL s.heap)) s m args below meth c H locs (tZ x - s.heap.size) (tY x - SL s.heap) (MQ below (tQ w A B (some (.int r)) xr) args s (B.1 - s.heap.size) (B.2 - SL s.heap) A) (F0 m 15 ls []) := by
  have hx := C.1.1
  have hb := C.1.2.1
  have hown := C.1.2.2.2.1
  have hts := C.1.2.2.2.2.1
  have hE := C.2.2
  intro n
  induction n with
  | zero => intro x l1 l2 H locs ls hI hl hf; rw [fT_soon_b15] at hf; cases hf
  | succ n ih =>
  intro x l1 l2 H locs ls hI hl hf
  rw [fT_soon_b15] at hf
  refine lv_iload_n hx hb dX0_soon_15 rfl (lv_at hl 2 rfl) ?_
  refine lv_bipush (v := 60) hx hb dX0_soon_16 (by decide) ?_
  refine b_icgt (tgt := 45) hx hb hf dX0_soon_18 (by decide) (fun hf => ?_) (fun hf => ?_)
  · refine lv_iconst (v := (-1)) hx hb dX0_soon_45 (by decide) ?_
    exact t_iret C hI hf dX0_soon_46
  · refine lv_aload_n hx hb dX0_soon_21 rfl (lv_at hl 0 rfl) ?_
    refine lv_iconst (v := 0) hx hb dX0_soon_22 (by decide) ?_
    refine lv_aload_n hx hb dX0_soon_23 rfl (lv_at hl 0 rfl) ?_
    refine tgX0_346 C hI dX0_soon_24 ?_
    refine lv_iconst (v := 1) hx hb dX0_soon_27 (by decide) ?_
    refine lv_isub hx hb dX0_soon_28 ?_
    refine lv_iload_n hx hb dX0_soon_29 rfl (lv_at hl 2 rfl) ?_
    refine t_cVi (rest := []) C hI hf (tmT_oddsFrom l N B _ _ _ _) (rv_main C hI) cqX0_T_oddsFrom ⟨Nat.le_of_ble_eq_true rfl, Nat.le_of_ble_eq_true rfl⟩ rfl hl.1 rfl (Nat.le_of_ble_eq_true rfl) dX0_soon_30 (fun v2 x1 H locs hI hf => ?_)
    refine lv_iload_n hx hb dX0_soon_33 rfl (lv_at hl 1 rfl) ?_
    refine b_iclt (tgt := 39) hx hb hf dX0_soon_34 (by decide) (fun hf => ?_) (fun hf => ?_)
    · refine lv_iinc (v := l2 + 1) (lv' := [(2, .int (l2 + 1)), (0, .ref (wa w 37)), (1, .int l1)]) hx hb dX0_soon_39 hl (k := 2) rfl rfl (by decide) rfl (fun ls hl => ?_)
      refine lv_goto (tgt := 15) hx hb dX0_soon_42 (by decide) ?_
      exact ih x1 l1 (l2 + 1) _ _ _ hI (lv_sub hl [1, 2, 0] rfl) hf
    · refine lv_iload_n hx hb dX0_soon_37 rfl (lv_at hl 2 rfl) ?_
      exact t_iret C hI hf dX0_soon_38
def fT_soon (N : Nat) (B : Nat × Nat) (x : TS) (l1 : Int32) : Option (Int32 × TS) :=
  (fT_isIn N l1 0 1000000).bind fun v1 =>
  if v1 = 0 then
    some ((-1), x)
  else
    fT_soon_b15 N B N x l1 1
theorem tmT_soon (l : Launch) (N : Nat) {w : tO} {A : Nat → Prop} (B : Nat × Nat) : ∀ (x : TS) (l1 : Int32) (r : Int32) (xr : TS), fT_soon N B x l1 = some (r, xr) → tMet l yX0_soon (ws_ yX0_soon cX0_soon 3 (some .int)) frT_soon loT_soon [.ref (wa w 37), .int l1] w A B x (some (.int r)) xr := by
  intro x l1 r xr hf
  refine t_start (cc := cX0_soon) (own := RX0) (by decide +kernel) rfl (Nat.le_of_ble_eq_true rfl) rfl ?_
  intro p e s m args below meth c ls H locs C hmn hI hl
  have hx := C.1.1
  have hb := C.1.2.1
  have hown := C.1.2.2.2.1
  have hts := C.1.2.2.2.2.1
  have hE := C.2.2
  rw [fT_soon] at hf
  refine lv_iload_n hx hb dX0_soon_0 rfl (lv_at hl 1 rfl) ?_
  refine lv_iconst (v := 0) hx hb dX0_soon_1 (by decide) ?_
  refine lv_ldcw hx hb hown (hts _ q1162) dX0_soon_2 ?_
  refine g_calliS (rest := []) C.1 hf (smT_isIn l N _ _ _) cqT_T_isIn ⟨rfl, rfl⟩ ⟨Nat.le_of_ble_eq_true rfl, Nat.le_of_ble_eq_true rfl⟩ rfl hl.1 rfl (Nat.le_of_ble_eq_true rfl) (t_room hI) dX0_soon_5 (fun v1 hf => ?_)
  refine b_ifne (tgt := 13) hx hb hf dX0_soon_8 (by decide) (fun hf => ?_) (fun hf => ?_)
  · refine lv_iconst (v := 1) hx hb dX0_soon_13 (by decide) ?_
    refine lv_istore_n (lv' := [(2, .int 1), (0, .ref (wa w 37)), (1, .int l1)]) hx hb dX0_soon_14 rfl hl (by decide) rfl (fun ls hl => ?_)
    exact w_fT_soon_b15 C N x l1 1 _ _ _ hI (lv_sub hl [1, 2, 0] rfl) hf
  · refine lv_iconst (v := (-1)) hx hb dX0_soon_11 (by decide) ?_
    exact t_iret C hI hf dX0_soon_12
/-! TwelveChain.oddsHurried(II)I -/
abbrev frT_oddsHurried : Nat := 407
abbrev loT_oddsHurried : Nat := 12175
def fT_oddsHurried (N : Nat) (B : Nat × Nat) (x : TS) (l1 : Int32) (l2 : Int32) : Option (Int32 × TS) :=
  (rd 12 (tC x 0 3) l1).bind fun v1 =>
  (wrC x 0 3 l1 0).bind fun x2 =>
  b2 (fT_oddsFrom N B x2 0 ((tS x2 21) - 1) l2) fun v4 x3 =>
  (wrC x3 0 3 l1 v1).bind fun x5 =>
  some (v4, x5)
theorem tmT_oddsHurried (l : Launch) (N : Nat) {w : tO} {A : Nat → Prop} (B : Nat × Nat) : ∀ (x : TS) (l1 : Int32) (l2 : Int32) (r : Int32) (xr : TS), fT_oddsHurried N B x l1 l2 = some (r, xr) → tMet l yX0_oddsHurried (ws_ yX0_oddsHurried cX0_oddsHurried 5 (some .int)) frT_oddsHurried loT_oddsHurried [.ref (wa w 37), .int l1, .int l2] w A B x (some (.int r)) xr := by
  intro x l1 l2 r xr hf
  refine t_start (cc := cX0_oddsHurried) (own := RX0) (by decide +kernel) rfl (Nat.le_of_ble_eq_true rfl) rfl ?_
  intro p e s m args below meth c ls H locs C hmn hI hl
  have hx := C.1.1
  have hb := C.1.2.1
  have hown := C.1.2.2.2.1
  have hts := C.1.2.2.2.2.1
  have hE := C.2.2
  rw [fT_oddsHurried] at hf
  refine lv_aload_n hx hb dX0_oddsHurried_0 rfl (lv_at hl 0 rfl) ?_
  refine tgX0_152 C hI dX0_oddsHurried_1 ?_
  refine tgX0_410 C hI (tI.l3 hI (by decide)) dX0_oddsHurried_4 ?_
  refine lv_iload_n hx hb dX0_oddsHurried_7 rfl (lv_at hl 1 rfl) ?_
  refine t_cald C hI (tI.l3 hI (by decide)) (by decide) hf dX0_oddsHurried_8 (fun v1 hf => ?_)
  refine lv_istore_n (lv' := [(3, .int v1), (0, .ref (wa w 37)), (1, .int l1), (2, .int l2)]) hx hb dX0_oddsHurried_9 rfl hl (by decide) rfl (fun ls hl => ?_)
  refine lv_aload_n hx hb dX0_oddsHurried_10 rfl (lv_at hl 1 rfl) ?_
  refine tgX0_152 C hI dX0_oddsHurried_11 ?_
  refine tgX0_410 C hI (tI.l3 hI (by decide)) dX0_oddsHurried_14 ?_
  refine lv_iload_n hx hb dX0_oddsHurried_17 rfl (lv_at hl 2 rfl) ?_
  refine lv_iconst (v := 0) hx hb dX0_oddsHurried_18 (by decide) ?_
  refine t_cast C hI (tI.l3 hI (by decide)) (by decide) hf dX0_oddsHurried_19 (fun x2 H locs hI hf => ?_)
  refine lv_aload_n hx hb dX0_oddsHurried_20 rfl (lv_at hl 1 rfl) ?_
  refine lv_iconst (v := 0) hx hb dX0_oddsHurried_21 (by decide) ?_
  refine lv_aload_n hx hb dX0_oddsHurried_22 rfl (lv_at hl 1 rfl) ?_
  refine tgX0_346 C hI dX0_oddsHurried_23 ?_
  refine lv_iconst (v := 1) hx hb dX0_oddsHurried_26 (by decide) ?_
  refine lv_isub hx hb dX0_oddsHurried_27 ?_
  refine lv_iload_n hx hb dX0_oddsHurried_28 rfl (lv_at hl 3 rfl) ?_
  refine t_cVi (rest := []) C hI hf (tmT_oddsFrom l N B _ _ _ _) (rv_main C hI) cqX0_T_oddsFrom ⟨Nat.le_of_ble_eq_true rfl, Nat.le_of_ble_eq_true rfl⟩ rfl hl.1 rfl (Nat.le_of_ble_eq_true rfl) dX0_oddsHurried_29 (fun v4 x3 H locs hI hf => ?_)
  refine lv_istore (lv' := [(4, .int v4), (3, .int v1), (0, .ref (wa w 37)), (1, .int l1), (2, .int l2)]) hx hb dX0_oddsHurried_32 hl (by decide) rfl (fun ls hl => ?_)
  refine lv_aload_n hx hb dX0_oddsHurried_34 rfl (lv_at hl 2 rfl) ?_
  refine tgX0_152 C hI dX0_oddsHurried_35 ?_
  refine tgX0_410 C hI (tI.l3 hI (by decide)) dX0_oddsHurried_38 ?_
  refine lv_iload_n hx hb dX0_oddsHurried_41 rfl (lv_at hl 3 rfl) ?_
  refine lv_iload_n hx hb dX0_oddsHurried_42 rfl (lv_at hl 1 rfl) ?_
  refine t_cast C hI (tI.l3 hI (by decide)) (by decide) hf dX0_oddsHurried_43 (fun x5 H locs hI hf => ?_)
  refine lv_iload hx hb dX0_oddsHurried_44 (lv_at hl 0 rfl) ?_
  exact t_iret C hI hf dX0_oddsHurried_46
