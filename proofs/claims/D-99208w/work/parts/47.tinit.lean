set_option maxRecDepth 100000
variable {p : Program} {l : Launch} {e : Env} {R : Room} {s : State} {m : MethodId} {args : Array Value} {below : List Frame} {meth : Method} {c : Code} {H : Heap} {locs : List Loc} {Q : State → Prop}
variable {w : tO} {A : Nat → Prop}
/-! CONSTRUCTORS (printed) -/
theorem dfX2 : ∀ j, j < 14 → defaultValue (tyX2 j) = vp_V [.null, .null, .null, .null, .null, .int 0, .int 0, .int 0, .int 0, .int 0, .int 0, .int 0, .int 0, .null] j := fun j hj => by
  match j, hj with
  | 0, _ => rfl
  | 1, _ => rfl
  | 2, _ => rfl
  | 3, _ => rfl
  | 4, _ => rfl
  | 5, _ => rfl
  | 6, _ => rfl
  | 7, _ => rfl
  | 8, _ => rfl
  | 9, _ => rfl
  | 10, _ => rfl
  | 11, _ => rfl
  | 12, _ => rfl
  | 13, _ => rfl
  | n + 14, h => omega
theorem dfX1 : ∀ j, j < 4 → defaultValue (tyX1 j) = vp_V [.null, .null, .null, .int 0] j := fun j hj => by
  match j, hj with
  | 0, _ => rfl
  | 1, _ => rfl
  | 2, _ => rfl
  | 3, _ => rfl
  | n + 4, h => omega
theorem dfX4 : ∀ j, j < 8 → defaultValue (tyX4 j) = vp_V [.null, .null, .null, .null, .null, .int 0, .int 0, .int 0] j := fun j hj => by
  match j, hj with
  | 0, _ => rfl
  | 1, _ => rfl
  | 2, _ => rfl
  | 3, _ => rfl
  | 4, _ => rfl
  | 5, _ => rfl
  | 6, _ => rfl
  | 7, _ => rfl
  | n + 8, h => omega
theorem dfX6 : ∀ j, j < 1 → defaultValue (tyX6 j) = vp_V [.int 0] j := fun j hj => by
  match j, hj with
  | 0, _ => rfl
  | n + 1, h => omega
theorem dfX7 : ∀ j, j < 1 → defaultValue (tyX7 j) = vp_V [.int 0] j := fun j hj => by
  match j, hj with
  | 0, _ => rfl
  | n + 1, h => omega
theorem dfX8 : ∀ j, j < 3 → defaultValue (tyX8 j) = vp_V [.int 0, .null, .null] j := fun j hj => by
  match j, hj with
  | 0, _ => rfl
  | 1, _ => rfl
  | 2, _ => rfl
  | n + 3, h => omega
theorem dfX9 : ∀ j, j < 1 → defaultValue (tyX9 j) = vp_V [.null] j := fun j hj => by
  match j, hj with
  | 0, _ => rfl
  | n + 1, h => omega
theorem dfX10 : ∀ j, j < 3 → defaultValue (tyX10 j) = vp_V [.int 0, .int 0, .int 0] j := fun j hj => by
  match j, hj with
  | 0, _ => rfl
  | 1, _ => rfl
  | 2, _ => rfl
  | n + 3, h => omega
theorem dfX11 : ∀ j, j < 2 → defaultValue (tyX11 j) = vp_V [.int 0, .int 0] j := fun j hj => by
  match j, hj with
  | 0, _ => rfl
  | 1, _ => rfl
  | n + 2, h => omega
theorem dfX12 : ∀ j, j < 5 → defaultValue (tyX12 j) = vp_V [.int 0, .int 0, .int 0, .int 0, .int 0] j := fun j hj => by
  match j, hj with
  | 0, _ => rfl
  | 1, _ => rfl
  | 2, _ => rfl
  | 3, _ => rfl
  | 4, _ => rfl
  | n + 5, h => omega
theorem cn_Fa_init : cN yX4_init cX4_init 3 none 2 := ⟨lw_meth q638, q167, by decide +kernel⟩
theorem cn_Tm_init : cN yX5_init cX5_init 1 none 0 := ⟨lw_meth q689, q168, by decide +kernel⟩
theorem cn_Rc_init : cN yJ9_init cJ9_init 1 none 0 := ⟨lw_meth q777, q173, by decide +kernel⟩
/-! java/lang/Record.<init>()V -/
abbrev frRc_init : Nat := 1
abbrev loRc_init : Nat := 12
def fRc_init (N : Nat) (B : Nat × Nat) (x : TS) (l0 : Nat) : Option TS :=
  some x
theorem tmRc_init (l : Launch) (N : Nat) {w : tO} {A : Nat → Prop} (B : Nat × Nat) : ∀ (x : TS) (l0 : Nat) (xr : TS), fRc_init N B x l0 = some xr → tMet l yJ9_init (ws_ yJ9_init cJ9_init 1 none) frRc_init loRc_init [.ref l0] w A B x none xr := by
  intro x l0 xr hf
  refine t_start (cc := cJ9_init) (own := RJ9) (by decide +kernel) rfl (Nat.le_of_ble_eq_true rfl) rfl ?_
  intro p e s m args below meth c ls H locs C hmn hI hl
  have hx := C.1.1
  have hb := C.1.2.1
  have hown := C.1.2.2.2.1
  have hts := C.1.2.2.2.2.1
  have hE := C.2.2
  rw [fRc_init] at hf
  refine lv_aload_n hx hb dJ9_init_0 rfl (lv_at hl 0 rfl) ?_
  refine W.objInit hx hb hown (hts _ q778) (hts _ q183) (hts _ q184) rfl (hl.1.trans C.1.2.2.1.symm) rfl dJ9_init_1 (Nat.le_of_ble_eq_true rfl) (Nat.le_of_ble_eq_true rfl) ?_
  refine W.eq (g2 := F0 m 4 ls []) rfl ?_
  exact t_vret C hI hf dJ9_init_4
/-! TwelveChain$Term.<init>()V -/
abbrev frTm_init : Nat := 1
abbrev loTm_init : Nat := 12
def fTm_init (N : Nat) (B : Nat × Nat) (x : TS) (l0 : Nat) : Option TS :=
  some x
theorem tmTm_init (l : Launch) (N : Nat) {w : tO} {A : Nat → Prop} (B : Nat × Nat) : ∀ (x : TS) (l0 : Nat) (xr : TS), fTm_init N B x l0 = some xr → tMet l yX5_init (ws_ yX5_init cX5_init 1 none) frTm_init loTm_init [.ref l0] w A B x none xr := by
  intro x l0 xr hf
  refine t_start (cc := cX5_init) (own := RX5) (by decide +kernel) rfl (Nat.le_of_ble_eq_true rfl) rfl ?_
  intro p e s m args below meth c ls H locs C hmn hI hl
  have hx := C.1.1
  have hb := C.1.2.1
  have hown := C.1.2.2.2.1
  have hts := C.1.2.2.2.2.1
  have hE := C.2.2
  rw [fTm_init] at hf
  refine lv_aload_n hx hb dX5_init_0 rfl (lv_at hl 0 rfl) ?_
  refine W.objInit hx hb hown (hts _ q690) (hts _ q183) (hts _ q184) rfl (hl.1.trans C.1.2.2.1.symm) rfl dX5_init_1 (Nat.le_of_ble_eq_true rfl) (Nat.le_of_ble_eq_true rfl) ?_
  refine W.eq (g2 := F0 m 4 ls []) rfl ?_
  exact t_vret C hI hf dX5_init_4
/-! TwelveChain$Number.<init>(I)V -/
abbrev frNu_init : Nat := 2
abbrev loNu_init : Nat := 32
def fNu_init (N : Nat) (B : Nat × Nat) (x : TS) (l0 : Nat) (l1 : Int32) : Option TS :=
  (fTm_init N B x l0).bind fun x1 =>
  (dpt x1 l0 5 0 (.int l1)).bind fun x2 =>
  some x2
theorem tmNu_init (l : Launch) (N : Nat) {w : tO} {A : Nat → Prop} (B : Nat × Nat) : ∀ (x : TS) (l0 : Nat) (l1 : Int32) (xr : TS), fNu_init N B x l0 l1 = some xr → tMet l yX6_init (ws_ yX6_init cX6_init 2 none) frNu_init loNu_init [.ref l0, .int l1] w A B x none xr := by
  intro x l0 l1 xr hf
  refine t_start (cc := cX6_init) (own := RX6) (by decide +kernel) rfl (Nat.le_of_ble_eq_true rfl) rfl ?_
  intro p e s m args below meth c ls H locs C hmn hI hl
  have hx := C.1.1
  have hb := C.1.2.1
  have hown := C.1.2.2.2.1
  have hts := C.1.2.2.2.2.1
  have hE := C.2.2
  rw [fNu_init] at hf
  refine lv_aload_n hx hb dX6_init_0 rfl (lv_at hl 0 rfl) ?_
  refine t_cINv (rest := []) C hI hf (tmTm_init l N B _ _) rfl q688 (List.mem_of_getElem? (i := 9) rfl) cn_Tm_init ⟨Nat.le_of_ble_eq_true rfl, Nat.le_of_ble_eq_true rfl⟩ rfl hl.1 rfl (Nat.le_of_ble_eq_true rfl) dX6_init_1 (fun x1 H locs hI hf => ?_)
  refine lv_aload_n hx hb dX6_init_4 rfl (lv_at hl 0 rfl) ?_
  refine lv_iload_n hx hb dX6_init_5 rfl (lv_at hl 1 rfl) ?_
  refine t_dputF (k := 0) C hI hmn hf rfl in_X6 tyX6 tyX6_ok nmX6 (by decide) q691 rfl rfl rfl (tyX6_ok 0 (by decide)) rfl rfl dX6_init_6 (fun x2 H locs hI hf => ?_)
  exact t_vret C hI hf dX6_init_9
/-! TwelveChain$Word.<init>(I)V -/
abbrev frWo_init : Nat := 2
abbrev loWo_init : Nat := 32
def fWo_init (N : Nat) (B : Nat × Nat) (x : TS) (l0 : Nat) (l1 : Int32) : Option TS :=
  (fTm_init N B x l0).bind fun x1 =>
  (dpt x1 l0 6 0 (.int l1)).bind fun x2 =>
  some x2
theorem tmWo_init (l : Launch) (N : Nat) {w : tO} {A : Nat → Prop} (B : Nat × Nat) : ∀ (x : TS) (l0 : Nat) (l1 : Int32) (xr : TS), fWo_init N B x l0 l1 = some xr → tMet l yX7_init (ws_ yX7_init cX7_init 2 none) frWo_init loWo_init [.ref l0, .int l1] w A B x none xr := by
  intro x l0 l1 xr hf
  refine t_start (cc := cX7_init) (own := RX7) (by decide +kernel) rfl (Nat.le_of_ble_eq_true rfl) rfl ?_
  intro p e s m args below meth c ls H locs C hmn hI hl
  have hx := C.1.1
  have hb := C.1.2.1
  have hown := C.1.2.2.2.1
  have hts := C.1.2.2.2.2.1
  have hE := C.2.2
  rw [fWo_init] at hf
  refine lv_aload_n hx hb dX7_init_0 rfl (lv_at hl 0 rfl) ?_
  refine t_cINv (rest := []) C hI hf (tmTm_init l N B _ _) rfl q688 (List.mem_of_getElem? (i := 10) rfl) cn_Tm_init ⟨Nat.le_of_ble_eq_true rfl, Nat.le_of_ble_eq_true rfl⟩ rfl hl.1 rfl (Nat.le_of_ble_eq_true rfl) dX7_init_1 (fun x1 H locs hI hf => ?_)
  refine lv_aload_n hx hb dX7_init_4 rfl (lv_at hl 0 rfl) ?_
  refine lv_iload_n hx hb dX7_init_5 rfl (lv_at hl 1 rfl) ?_
  refine t_dputF (k := 0) C hI hmn hf rfl in_X7 tyX7 tyX7_ok nmX7 (by decide) q701 rfl rfl rfl (tyX7_ok 0 (by decide)) rfl rfl dX7_init_6 (fun x2 H locs hI hf => ?_)
  exact t_vret C hI hf dX7_init_9
/-! TwelveChain$Two.<init>(CLTwelveChain$Term;LTwelveChain$Term;)V -/
abbrev frTw_init : Nat := 2
abbrev loTw_init : Nat := 32
def fTw_init (N : Nat) (B : Nat × Nat) (x : TS) (l0 : Nat) (l1 : Int32) (l2 : Nat) (l3 : Nat) : Option TS :=
  (fTm_init N B x l0).bind fun x1 =>
  (fitC l1).bind fun c3 =>
  (dpt x1 l0 7 0 (.int c3)).bind fun x2 =>
  (dpt x2 l0 7 1 (.ref l2)).bind fun x4 =>
  (dpt x4 l0 7 2 (.ref l3)).bind fun x5 =>
  some x5
theorem tmTw_init (l : Launch) (N : Nat) {w : tO} {A : Nat → Prop} (B : Nat × Nat) : ∀ (x : TS) (l0 : Nat) (l1 : Int32) (l2 : Nat) (l3 : Nat) (xr : TS), fTw_init N B x l0 l1 l2 l3 = some xr → tMet l yX8_init (ws_ yX8_init cX8_init 4 none) frTw_init loTw_init [.ref l0, .int l1, .ref l2, .ref l3] w A B x none xr := by
  intro x l0 l1 l2 l3 xr hf
  refine t_start (cc := cX8_init) (own := RX8) (by decide +kernel) rfl (Nat.le_of_ble_eq_true rfl) rfl ?_
  intro p e s m args below meth c ls H locs C hmn hI hl
  have hx := C.1.1
  have hb := C.1.2.1
  have hown := C.1.2.2.2.1
  have hts := C.1.2.2.2.2.1
  have hE := C.2.2
  rw [fTw_init] at hf
  refine lv_aload_n hx hb dX8_init_0 rfl (lv_at hl 0 rfl) ?_
  refine t_cINv (rest := []) C hI hf (tmTm_init l N B _ _) rfl q688 (List.mem_of_getElem? (i := 11) rfl) cn_Tm_init ⟨Nat.le_of_ble_eq_true rfl, Nat.le_of_ble_eq_true rfl⟩ rfl hl.1 rfl (Nat.le_of_ble_eq_true rfl) dX8_init_1 (fun x1 H locs hI hf => ?_)
  refine lv_aload_n hx hb dX8_init_4 rfl (lv_at hl 0 rfl) ?_
  refine lv_iload_n hx hb dX8_init_5 rfl (lv_at hl 1 rfl) ?_
  obtain ⟨c3, hc3, hf2⟩ := b1_some hf
  clear hf
  obtain ⟨rfl, hn1, hn2⟩ := fitC_some hc3
  have hf := hf2
  clear hf2
  refine t_dputF (k := 0) C hI hmn hf rfl in_X8 tyX8 tyX8_ok nmX8 (by decide) q715 rfl rfl rfl (tyX8_ok 0 (by decide)) hn1 hn2 dX8_init_6 (fun x2 H locs hI hf => ?_)
  refine lv_aload_n hx hb dX8_init_9 rfl (lv_at hl 0 rfl) ?_
  refine lv_aload_n hx hb dX8_init_10 rfl (lv_at hl 2 rfl) ?_
  refine t_dputF (k := 1) C hI hmn hf rfl in_X8 tyX8 tyX8_ok nmX8 (by decide) q716 rfl rfl rfl (tyX8_ok 1 (by decide)) rfl rfl dX8_init_11 (fun x4 H locs hI hf => ?_)
  refine lv_aload_n hx hb dX8_init_14 rfl (lv_at hl 0 rfl) ?_
  refine lv_aload_n hx hb dX8_init_15 rfl (lv_at hl 3 rfl) ?_
  refine t_dputF (k := 2) C hI hmn hf rfl in_X8 tyX8 tyX8_ok nmX8 (by decide) q717 rfl rfl rfl (tyX8_ok 2 (by decide)) rfl rfl dX8_init_16 (fun x5 H locs hI hf => ?_)
  exact t_vret C hI hf dX8_init_19
/-! TwelveChain$Not.<init>(LTwelveChain$Term;)V -/
abbrev frNo_init : Nat := 2
abbrev loNo_init : Nat := 32
def fNo_init (N : Nat) (B : Nat × Nat) (x : TS) (l0 : Nat) (l1 : Nat) : Option TS :=
  (fTm_init N B x l0).bind fun x1 =>
  (dpt x1 l0 8 0 (.ref l1)).bind fun x2 =>
  some x2
theorem tmNo_init (l : Launch) (N : Nat) {w : tO} {A : Nat → Prop} (B : Nat × Nat) : ∀ (x : TS) (l0 : Nat) (l1 : Nat) (xr : TS), fNo_init N B x l0 l1 = some xr → tMet l yX9_init (ws_ yX9_init cX9_init 2 none) frNo_init loNo_init [.ref l0, .ref l1] w A B x none xr := by
  intro x l0 l1 xr hf
  refine t_start (cc := cX9_init) (own := RX9) (by decide +kernel) rfl (Nat.le_of_ble_eq_true rfl) rfl ?_
  intro p e s m args below meth c ls H locs C hmn hI hl
  have hx := C.1.1
  have hb := C.1.2.1
  have hown := C.1.2.2.2.1
  have hts := C.1.2.2.2.2.1
  have hE := C.2.2
  rw [fNo_init] at hf
  refine lv_aload_n hx hb dX9_init_0 rfl (lv_at hl 0 rfl) ?_
  refine t_cINv (rest := []) C hI hf (tmTm_init l N B _ _) rfl q688 (List.mem_of_getElem? (i := 12) rfl) cn_Tm_init ⟨Nat.le_of_ble_eq_true rfl, Nat.le_of_ble_eq_true rfl⟩ rfl hl.1 rfl (Nat.le_of_ble_eq_true rfl) dX9_init_1 (fun x1 H locs hI hf => ?_)
  refine lv_aload_n hx hb dX9_init_4 rfl (lv_at hl 0 rfl) ?_
  refine lv_aload_n hx hb dX9_init_5 rfl (lv_at hl 1 rfl) ?_
  refine t_dputF (k := 0) C hI hmn hf rfl in_X9 tyX9 tyX9_ok nmX9 (by decide) q751 rfl rfl rfl (tyX9_ok 0 (by decide)) rfl rfl dX9_init_6 (fun x2 H locs hI hf => ?_)
  exact t_vret C hI hf dX9_init_9
/-! TwelveChain$Phone.<init>(III)V -/
abbrev frPh_init : Nat := 2
abbrev loPh_init : Nat := 32
def fPh_init (N : Nat) (B : Nat × Nat) (x : TS) (l0 : Nat) (l1 : Int32) (l2 : Int32) (l3 : Int32) : Option TS :=
  (fRc_init N B x l0).bind fun x1 =>
  (dpt x1 l0 9 0 (.int l1)).bind fun x2 =>
  (dpt x2 l0 9 1 (.int l2)).bind fun x3 =>
  (dpt x3 l0 9 2 (.int l3)).bind fun x4 =>
  some x4
theorem tmPh_init (l : Launch) (N : Nat) {w : tO} {A : Nat → Prop} (B : Nat × Nat) : ∀ (x : TS) (l0 : Nat) (l1 : Int32) (l2 : Int32) (l3 : Int32) (xr : TS), fPh_init N B x l0 l1 l2 l3 = some xr → tMet l yX10_init (ws_ yX10_init cX10_init 4 none) frPh_init loPh_init [.ref l0, .int l1, .int l2, .int l3] w A B x none xr := by
  intro x l0 l1 l2 l3 xr hf
  refine t_start (cc := cX10_init) (own := RX10) (by decide +kernel) rfl (Nat.le_of_ble_eq_true rfl) rfl ?_
  intro p e s m args below meth c ls H locs C hmn hI hl
  have hx := C.1.1
  have hb := C.1.2.1
  have hown := C.1.2.2.2.1
  have hts := C.1.2.2.2.2.1
  have hE := C.2.2
  rw [fPh_init] at hf
  refine lv_aload_n hx hb dX10_init_0 rfl (lv_at hl 0 rfl) ?_
  refine t_cIv (rest := []) C hI hf (tmRc_init l N B _ _) rfl q776 q775 cn_Rc_init ⟨Nat.le_of_ble_eq_true rfl, Nat.le_of_ble_eq_true rfl⟩ rfl hl.1 rfl (Nat.le_of_ble_eq_true rfl) dX10_init_1 (fun x1 H locs hI hf => ?_)
  refine lv_aload_n hx hb dX10_init_4 rfl (lv_at hl 0 rfl) ?_
  refine lv_iload_n hx hb dX10_init_5 rfl (lv_at hl 1 rfl) ?_
  refine t_dputF (k := 0) C hI hmn hf rfl in_X10 tyX10 tyX10_ok nmX10 (by decide) q779 rfl rfl rfl (tyX10_ok 0 (by decide)) rfl rfl dX10_init_6 (fun x2 H locs hI hf => ?_)
  refine lv_aload_n hx hb dX10_init_9 rfl (lv_at hl 0 rfl) ?_
  refine lv_iload_n hx hb dX10_init_10 rfl (lv_at hl 2 rfl) ?_
  refine t_dputF (k := 1) C hI hmn hf rfl in_X10 tyX10 tyX10_ok nmX10 (by decide) q780 rfl rfl rfl (tyX10_ok 1 (by decide)) rfl rfl dX10_init_11 (fun x3 H locs hI hf => ?_)
  refine lv_aload_n hx hb dX10_init_14 rfl (lv_at hl 0 rfl) ?_
  refine lv_iload_n hx hb dX10_init_15 rfl (lv_at hl 3 rfl) ?_
  refine t_dputF (k := 2) C hI hmn hf rfl in_X10 tyX10 tyX10_ok nmX10 (by decide) q781 rfl rfl rfl (tyX10_ok 2 (by decide)) rfl rfl dX10_init_16 (fun x4 H locs hI hf => ?_)
  exact t_vret C hI hf dX10_init_19
/-! TwelveChain$Wrote.<init>(II)V -/
abbrev frWr_init : Nat := 2
abbrev loWr_init : Nat := 32
def fWr_init (N : Nat) (B : Nat × Nat) (x : TS) (l0 : Nat) (l1 : Int32) (l2 : Int32) : Option TS :=
  (fRc_init N B x l0).bind fun x1 =>
  (dpt x1 l0 10 0 (.int l1)).bind fun x2 =>
  (dpt x2 l0 10 1 (.int l2)).bind fun x3 =>
  some x3
theorem tmWr_init (l : Launch) (N : Nat) {w : tO} {A : Nat → Prop} (B : Nat × Nat) : ∀ (x : TS) (l0 : Nat) (l1 : Int32) (l2 : Int32) (xr : TS), fWr_init N B x l0 l1 l2 = some xr → tMet l yX11_init (ws_ yX11_init cX11_init 3 none) frWr_init loWr_init [.ref l0, .int l1, .int l2] w A B x none xr := by
  intro x l0 l1 l2 xr hf
  refine t_start (cc := cX11_init) (own := RX11) (by decide +kernel) rfl (Nat.le_of_ble_eq_true rfl) rfl ?_
  intro p e s m args below meth c ls H locs C hmn hI hl
  have hx := C.1.1
  have hb := C.1.2.1
  have hown := C.1.2.2.2.1
  have hts := C.1.2.2.2.2.1
  have hE := C.2.2
  rw [fWr_init] at hf
  refine lv_aload_n hx hb dX11_init_0 rfl (lv_at hl 0 rfl) ?_
  refine t_cIv (rest := []) C hI hf (tmRc_init l N B _ _) rfl q776 q797 cn_Rc_init ⟨Nat.le_of_ble_eq_true rfl, Nat.le_of_ble_eq_true rfl⟩ rfl hl.1 rfl (Nat.le_of_ble_eq_true rfl) dX11_init_1 (fun x1 H locs hI hf => ?_)
  refine lv_aload_n hx hb dX11_init_4 rfl (lv_at hl 0 rfl) ?_
  refine lv_iload_n hx hb dX11_init_5 rfl (lv_at hl 1 rfl) ?_
  refine t_dputF (k := 0) C hI hmn hf rfl in_X11 tyX11 tyX11_ok nmX11 (by decide) q798 rfl rfl rfl (tyX11_ok 0 (by decide)) rfl rfl dX11_init_6 (fun x2 H locs hI hf => ?_)
  refine lv_aload_n hx hb dX11_init_9 rfl (lv_at hl 0 rfl) ?_
  refine lv_iload_n hx hb dX11_init_10 rfl (lv_at hl 2 rfl) ?_
  refine t_dputF (k := 1) C hI hmn hf rfl in_X11 tyX11 tyX11_ok nmX11 (by decide) q799 rfl rfl rfl (tyX11_ok 1 (by decide)) rfl rfl dX11_init_11 (fun x3 H locs hI hf => ?_)
  exact t_vret C hI hf dX11_init_14
/-! TwelveChain$Deed.<init>(IIIII)V -/
abbrev frDe_init : Nat := 2
abbrev loDe_init : Nat := 32
def fDe_init (N : Nat) (B : Nat × Nat) (x : TS) (l0 : Nat) (l1 : Int32) (l2 : Int32) (l3 : Int32) (l4 : Int32) (l5 : Int32) : Option TS :=
  (fRc_init N B x l0).bind fun x1 =>
  (dpt x1 l0 11 0 (.int l1)).bind fun x2 =>
  (dpt x2 l0 11 1 (.int l2)).bind fun x3 =>
  (dpt x3 l0 11 2 (.int l3)).bind fun x4 =>
  (dpt x4 l0 11 3 (.int l4)).bind fun x5 =>
  (dpt x5 l0 11 4 (.int l5)).bind fun x6 =>
  some x6
theorem tmDe_init (l : Launch) (N : Nat) {w : tO} {A : Nat → Prop} (B : Nat × Nat) : ∀ (x : TS) (l0 : Nat) (l1 : Int32) (l2 : Int32) (l3 : Int32) (l4 : Int32) (l5 : Int32) (xr : TS), fDe_init N B x l0 l1 l2 l3 l4 l5 = some xr → tMet l yX12_init (ws_ yX12_init cX12_init 6 none) frDe_init loDe_init [.ref l0, .int l1, .int l2, .int l3, .int l4, .int l5] w A B x none xr := by
  intro x l0 l1 l2 l3 l4 l5 xr hf
  refine t_start (cc := cX12_init) (own := RX12) (by decide +kernel) rfl (Nat.le_of_ble_eq_true rfl) rfl ?_
  intro p e s m args below meth c ls H locs C hmn hI hl
  have hx := C.1.1
  have hb := C.1.2.1
  have hown := C.1.2.2.2.1
  have hts := C.1.2.2.2.2.1
  have hE := C.2.2
  rw [fDe_init] at hf
  refine lv_aload_n hx hb dX12_init_0 rfl (lv_at hl 0 rfl) ?_
  refine t_cIv (rest := []) C hI hf (tmRc_init l N B _ _) rfl q776 q817 cn_Rc_init ⟨Nat.le_of_ble_eq_true rfl, Nat.le_of_ble_eq_true rfl⟩ rfl hl.1 rfl (Nat.le_of_ble_eq_true rfl) dX12_init_1 (fun x1 H locs hI hf => ?_)
  refine lv_aload_n hx hb dX12_init_4 rfl (lv_at hl 0 rfl) ?_
  refine lv_iload_n hx hb dX12_init_5 rfl (lv_at hl 1 rfl) ?_
  refine t_dputF (k := 0) C hI hmn hf rfl in_X12 tyX12 tyX12_ok nmX12 (by decide) q818 rfl rfl rfl (tyX12_ok 0 (by decide)) rfl rfl dX12_init_6 (fun x2 H locs hI hf => ?_)
  refine lv_aload_n hx hb dX12_init_9 rfl (lv_at hl 0 rfl) ?_
  refine lv_iload_n hx hb dX12_init_10 rfl (lv_at hl 2 rfl) ?_
  refine t_dputF (k := 1) C hI hmn hf rfl in_X12 tyX12 tyX12_ok nmX12 (by decide) q819 rfl rfl rfl (tyX12_ok 1 (by decide)) rfl rfl dX12_init_11 (fun x3 H locs hI hf => ?_)
  refine lv_aload_n hx hb dX12_init_14 rfl (lv_at hl 0 rfl) ?_
  refine lv_iload_n hx hb dX12_init_15 rfl (lv_at hl 3 rfl) ?_
  refine t_dputF (k := 2) C hI hmn hf rfl in_X12 tyX12 tyX12_ok nmX12 (by decide) q820 rfl rfl rfl (tyX12_ok 2 (by decide)) rfl rfl dX12_init_16 (fun x4 H locs hI hf => ?_)
  refine lv_aload_n hx hb dX12_init_19 rfl (lv_at hl 0 rfl) ?_
  refine lv_iload hx hb dX12_init_20 (lv_at hl 4 rfl) ?_
  refine t_dputF (k := 3) C hI hmn hf rfl in_X12 tyX12 tyX12_ok nmX12 (by decide) q821 rfl rfl rfl (tyX12_ok 3 (by decide)) rfl rfl dX12_init_22 (fun x5 H locs hI hf => ?_)
  refine lv_aload_n hx hb dX12_init_25 rfl (lv_at hl 0 rfl) ?_
  refine lv_iload hx hb dX12_init_26 (lv_at hl 5 rfl) ?_
  refine t_dputF (k := 4) C hI hmn hf rfl in_X12 tyX12 tyX12_ok nmX12 (by decide) q822 rfl rfl rfl (tyX12_ok 4 (by decide)) rfl rfl dX12_init_28 (fun x6 H locs hI hf => ?_)
  exact t_vret C hI hf dX12_init_31
/-! TwelveChain$Text.<init>()V -/
abbrev frTx_init : Nat := 1
abbrev loTx_init : Nat := 12
def fTx_init (N : Nat) (B : Nat × Nat) (x : TS) (l0 : Nat) : Option TS :=
  b2 (alc B x 16 (dI 0 16 (fun _ => 0))) fun q1 x2 =>
  (dpt x2 l0 2 0 (.ref q1)).bind fun x3 =>
  b2 (nwR B x3 4 16) fun q4 x5 =>
  (dpt x5 l0 2 1 (.ref q4)).bind fun x6 =>
  b2 (nwR B x6 4 16) fun q7 x8 =>
  (dpt x8 l0 2 2 (.ref q7)).bind fun x9 =>
  some x9
theorem tmTx_init (l : Launch) (N : Nat) {w : tO} {A : Nat → Prop} (B : Nat × Nat) : ∀ (x : TS) (l0 : Nat) (xr : TS), fTx_init N B x l0 = some xr → tMet l yX1_init (ws_ yX1_init cX1_init 1 none) frTx_init loTx_init [.ref l0] w A B x none xr := by
  intro x l0 xr hf
  refine t_start (cc := cX1_init) (own := RX1) (by decide +kernel) rfl (Nat.le_of_ble_eq_true rfl) rfl ?_
  intro p e s m args below meth c ls H locs C hmn hI hl
  have hx := C.1.1
  have hb := C.1.2.1
  have hown := C.1.2.2.2.1
  have hts := C.1.2.2.2.2.1
  have hE := C.2.2
  rw [fTx_init] at hf
  refine lv_aload_n hx hb dX1_init_0 rfl (lv_at hl 0 rfl) ?_
  refine W.objInit hx hb hown (hts _ q218) (hts _ q183) (hts _ q184) rfl (hl.1.trans C.1.2.2.1.symm) rfl dX1_init_1 (Nat.le_of_ble_eq_true rfl) (Nat.le_of_ble_eq_true rfl) ?_
  refine W.eq (g2 := F0 m 4 ls []) rfl ?_
  refine lv_aload_n hx hb dX1_init_4 rfl (lv_at hl 0 rfl) ?_
  refine lv_bipush (v := 16) hx hb dX1_init_5 (by decide) ?_
  refine t_newI (atype := .int) (code := 0) (N' := 16) C hI hf rfl (Or.inl rfl) q238 rfl (by decide) rfl (by decide) dX1_init_7 (fun q1 x2 H locs hI hf => ?_)
  refine t_dputF (k := 0) C hI hmn hf rfl in_X1 tyX1 tyX1_ok nmX1 (by decide) q221 rfl rfl rfl (tyX1_ok 0 (by decide)) rfl rfl dX1_init_9 (fun x3 H locs hI hf => ?_)
  refine lv_aload_n hx hb dX1_init_12 rfl (lv_at hl 0 rfl) ?_
  refine lv_bipush (v := 16) hx hb dX1_init_13 (by decide) ?_
  refine t_newR1 (code := 4) C hI hf rfl (by decide) q219 dX1_init_15 (fun q4 x5 H locs hI hf => ?_)
  refine t_dputF (k := 1) C hI hmn hf rfl in_X1 tyX1 tyX1_ok nmX1 (by decide) q223 rfl rfl rfl (tyX1_ok 1 (by decide)) rfl rfl dX1_init_18 (fun x6 H locs hI hf => ?_)
  refine lv_aload_n hx hb dX1_init_21 rfl (lv_at hl 0 rfl) ?_
  refine lv_bipush (v := 16) hx hb dX1_init_22 (by decide) ?_
  refine t_newR1 (code := 4) C hI hf rfl (by decide) q219 dX1_init_24 (fun q7 x8 H locs hI hf => ?_)
  refine t_dputF (k := 2) C hI hmn hf rfl in_X1 tyX1 tyX1_ok nmX1 (by decide) q225 rfl rfl rfl (tyX1_ok 2 (by decide)) rfl rfl dX1_init_27 (fun x9 H locs hI hf => ?_)
  exact t_vret C hI hf dX1_init_30
/-! TwelveChain$Chain.<init>(LTwelveChain;)V -/
abbrev frC_init : Nat := 1
abbrev loC_init : Nat := 12
def fC_init (N : Nat) (B : Nat × Nat) (x : TS) (l0 : Nat) (l1 : Nat) : Option TS :=
  (dpt x l0 1 13 (.ref l1)).bind fun x1 =>
  b2 (alc B x1 12 (dI 0 12 (fun _ => 0))) fun q2 x3 =>
  (dpt x3 l0 1 0 (.ref q2)).bind fun x4 =>
  b2 (alc B x4 12 (dI 0 12 (fun _ => 0))) fun q5 x6 =>
  (dpt x6 l0 1 1 (.ref q5)).bind fun x7 =>
  b2 (alc B x7 12 (dI 0 12 (fun _ => 0))) fun q8 x9 =>
  (dpt x9 l0 1 2 (.ref q8)).bind fun x10 =>
  b2 (alc B x10 12 (dI 0 12 (fun _ => 0))) fun q11 x12 =>
  (dpt x12 l0 1 3 (.ref q11)).bind fun x13 =>
  b2 (alc B x13 12 (dI 0 12 (fun _ => 0))) fun q14 x15 =>
  (dpt x15 l0 1 4 (.ref q14)).bind fun x16 =>
  some x16
theorem tmC_init (l : Launch) (N : Nat) {w : tO} {A : Nat → Prop} (B : Nat × Nat) : ∀ (x : TS) (l0 : Nat) (l1 : Nat) (xr : TS), fC_init N B x l0 l1 = some xr → tMet l yX2_init (ws_ yX2_init cX2_init 2 none) frC_init loC_init [.ref l0, .ref l1] w A B x none xr := by
  intro x l0 l1 xr hf
  refine t_start (cc := cX2_init) (own := RX2) (by decide +kernel) rfl (Nat.le_of_ble_eq_true rfl) rfl ?_
  intro p e s m args below meth c ls H locs C hmn hI hl
  have hx := C.1.1
  have hb := C.1.2.1
  have hown := C.1.2.2.2.1
  have hts := C.1.2.2.2.2.1
  have hE := C.2.2
  rw [fC_init] at hf
  refine lv_aload_n hx hb dX2_init_0 rfl (lv_at hl 0 rfl) ?_
  refine lv_aload_n hx hb dX2_init_1 rfl (lv_at hl 1 rfl) ?_
  refine t_dputF (k := 13) C hI hmn hf rfl in_X2 tyX2 tyX2_ok nmX2 (by decide) q276 rfl rfl rfl (tyX2_ok 13 (by decide)) rfl rfl dX2_init_2 (fun x1 H locs hI hf => ?_)
  refine lv_aload_n hx hb dX2_init_5 rfl (lv_at hl 0 rfl) ?_
  refine W.objInit hx hb hown (hts _ q250) (hts _ q183) (hts _ q184) rfl (hl.1.trans C.1.2.2.1.symm) rfl dX2_init_6 (Nat.le_of_ble_eq_true rfl) (Nat.le_of_ble_eq_true rfl) ?_
  refine W.eq (g2 := F0 m 9 ls []) rfl ?_
  refine lv_aload_n hx hb dX2_init_9 rfl (lv_at hl 0 rfl) ?_
  refine lv_bipush (v := 12) hx hb dX2_init_10 (by decide) ?_
  refine t_newI (atype := .int) (code := 0) (N' := 12) C hI hf rfl (Or.inl rfl) q238 rfl (by decide) rfl (by decide) dX2_init_12 (fun q2 x3 H locs hI hf => ?_)
  refine t_dputF (k := 0) C hI hmn hf rfl in_X2 tyX2 tyX2_ok nmX2 (by decide) q251 rfl rfl rfl (tyX2_ok 0 (by decide)) rfl rfl dX2_init_14 (fun x4 H locs hI hf => ?_)
  refine lv_aload_n hx hb dX2_init_17 rfl (lv_at hl 0 rfl) ?_
  refine lv_bipush (v := 12) hx hb dX2_init_18 (by decide) ?_
  refine t_newI (atype := .int) (code := 0) (N' := 12) C hI hf rfl (Or.inl rfl) q238 rfl (by decide) rfl (by decide) dX2_init_20 (fun q5 x6 H locs hI hf => ?_)
  refine t_dputF (k := 1) C hI hmn hf rfl in_X2 tyX2 tyX2_ok nmX2 (by decide) q253 rfl rfl rfl (tyX2_ok 1 (by decide)) rfl rfl dX2_init_22 (fun x7 H locs hI hf => ?_)
  refine lv_aload_n hx hb dX2_init_25 rfl (lv_at hl 0 rfl) ?_
  refine lv_bipush (v := 12) hx hb dX2_init_26 (by decide) ?_
  refine t_newI (atype := .int) (code := 0) (N' := 12) C hI hf rfl (Or.inl rfl) q238 rfl (by decide) rfl (by decide) dX2_init_28 (fun q8 x9 H locs hI hf => ?_)
  refine t_dputF (k := 2) C hI hmn hf rfl in_X2 tyX2 tyX2_ok nmX2 (by decide) q255 rfl rfl rfl (tyX2_ok 2 (by decide)) rfl rfl dX2_init_30 (fun x10 H locs hI hf => ?_)
  refine lv_aload_n hx hb dX2_init_33 rfl (lv_at hl 0 rfl) ?_
  refine lv_bipush (v := 12) hx hb dX2_init_34 (by decide) ?_
  refine t_newI (atype := .int) (code := 0) (N' := 12) C hI hf rfl (Or.inl rfl) q238 rfl (by decide) rfl (by decide) dX2_init_36 (fun q11 x12 H locs hI hf => ?_)
  refine t_dputF (k := 3) C hI hmn hf rfl in_X2 tyX2 tyX2_ok nmX2 (by decide) q257 rfl rfl rfl (tyX2_ok 3 (by decide)) rfl rfl dX2_init_38 (fun x13 H locs hI hf => ?_)
  refine lv_aload_n hx hb dX2_init_41 rfl (lv_at hl 0 rfl) ?_
  refine lv_bipush (v := 12) hx hb dX2_init_42 (by decide) ?_
  refine t_newI (atype := .int) (code := 0) (N' := 12) C hI hf rfl (Or.inl rfl) q238 rfl (by decide) rfl (by decide) dX2_init_44 (fun q14 x15 H locs hI hf => ?_)
  refine t_dputF (k := 4) C hI hmn hf rfl in_X2 tyX2 tyX2_ok nmX2 (by decide) q259 rfl rfl rfl (tyX2_ok 4 (by decide)) rfl rfl dX2_init_46 (fun x16 H locs hI hf => ?_)
  exact t_vret C hI hf dX2_init_49
