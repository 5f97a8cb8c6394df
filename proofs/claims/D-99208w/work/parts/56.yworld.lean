/-! THE BARE WORLD: only what was made, cell by cell (before the main object is whole) -/
set_option maxRecDepth 100000
def yK (x : TS) (k : Nat) : Option (Nat × DE) := (tD x k).map (fun e => (k, e))
theorem yK_d {x : TS} {q : Nat} {e : DE} (h : tD x q = some e) : yK x q = some (q, e) := by unfold yK; rw [h]; rfl
theorem yK_dyn {x : TS} {q : Nat} {e : DE} : kU (yK x) q (q, e) = yK (sTD x q e) := by
  funext k
  unfold kU
  by_cases hk : k = q
  · subst hk
    rw [if_pos rfl]
    unfold yK
    simp [tD, sTD]
  · rw [if_neg hk]
    unfold yK
    simp [tD, sTD, hk]
theorem yK_new {x : TS} {n : Nat} {e : DE} : kU (yK x) (tZ x) (tZ x, e) = yK (sTN x n e) := by
  rw [yK_dyn]
  rfl
def yI (w : tO) (A : Nat → Prop) (B : Nat × Nat) (x : TS) (H0 H : Heap) (locs : List Loc) : Prop :=
  kP w (yK x) H ∧ kD A (yK x) ∧ va_S A H0 H locs ∧ H.size = tZ x ∧ SL H = tY x ∧ tZ x ≤ B.1 ∧ (tY x ≤ B.2 ∧ SL H0 ≤ tY x) ∧ (∀ q, tZ x ≤ q → A q)
def yQ (w : tO) (A : Nat → Prop) (B : Nat × Nat) (v : Option Value) (x : TS) : Array Value → State → Outcome → State → Prop := fun _ st o t =>
  o = .returned v ∧ kP w (yK x) t.heap ∧ kD A (yK x) ∧ va_F A st t ∧ t.heap.size = tZ x ∧ SL t.heap = tY x ∧ tZ x ≤ B.1 ∧ tY x ≤ B.2 ∧ SL st.heap ≤ tY x
def yB (w : tO) (A : Nat → Prop) (B : Nat × Nat) (x : TS) (U : State) : Prop :=
  va_K (wD w) clz (tys w) U ∧ tE w A U ∧ kP w (yK x) U.heap ∧ kD A (yK x) ∧ U.heap.size = tZ x ∧ SL U.heap = tY x ∧ tZ x ≤ B.1 ∧ tY x ≤ B.2 ∧ (∀ q, tZ x ≤ q → A q)
def yMet (l : Launch) (y : MethodName) (ws : List Cond) (fr lo : Nat) (av : List Value) (w : tO) (A : Nat → Prop) (B : Nat × Nat) (x : TS) (v : Option Value) (x1 : TS) : Prop :=
  Met l y ws (tRm B fr lo (tZ x) (tY x)) (va_Pc av (yB w A B x)) (yQ w A B v x1) (B.1 - tZ x) (B.2 - tY x) A
theorem yB_blind {av : List Value} {w : tO} {A : Nat → Prop} {B : Nat × Nat} {x : TS} : FrameBlind (va_Pc av (yB w A B x)) :=
  va_Pc_blind fun a U g mk h => ⟨va_K.moved (u := U) (U := U.calling g mk a) (Vm.Alike.refl U.vm) h.1, tE.same (u := U) rfl rfl h.2.1, h.2.2⟩
section YR
variable {p : Program} {l : Launch} {e : Env} {R : Room} {s : State} {m : MethodId} {args : Array Value} {below : List Frame} {meth : Method} {c : Code} {H : Heap} {locs : List Loc} {Q : State → Prop}
variable {cc : ByteArray} {pc nL cells slots fr lo : Nat} {ls : Array Slot} {rest : List Value} {w : tO} {A : Nat → Prop} {B : Nat × Nat} {x : TS} {ret0 : Option FieldType} {own : String}
theorem y_tight {g : JFrame} (hI : yI w A B x s.heap H locs) (kk : W p l e R s m args below meth c H locs (tZ x - s.heap.size) (tY x - SL s.heap) Q g) : W p l e R s m args below meth c H locs cells slots Q g := by
  have h1 := hI.2.2.1.1
  have h2 := hI.2.2.2.1
  have h3 := hI.2.2.2.2.1
  exact W.tight (by omega) (by omega) kk
theorem yI.at {k : Nat} {q : Nat × DE} {H0 : Heap} (hI : yI w A B x H0 H locs) (hk : yK x k = some q) : tAt w q H := hI.1 k q hk
theorem yI.set {k a i : Nat} {e0 e : DE} {x1 : TS} {H0 H1 : Heap} (hI : yI w A B x H0 H locs) (hk : yK x k = some (a, e0)) (he : tAt w (a, e) H1) (hb : But H H1 a) (hU : kU (yK x) k (a, e) = yK x1) (hz : tZ x1 = tZ x) (hy : tY x1 = tY x) : yI w A B x1 H0 H1 (locs ++ [⟨a, i⟩]) := by
  obtain ⟨h1, h2, h3, h4, h5, h6, h7, h8⟩ := hI
  obtain ⟨b1, b2, b3⟩ := hb
  exact ⟨hU ▸ h1.set h2 hk he b2, hU ▸ h2.set hk, h3.put b1 b2 (h2.2 k _ hk), by rw [b1, hz]; exact h4, by rw [b3, hy]; exact h5, by rw [hz]; exact h6, by rw [hy]; exact h7, by rw [hz]; exact h8⟩
theorem yI.new {n : Nat} {e : DE} {H0 H1 : Heap} (hI : yI w A B x H0 H locs) (he : tAt w (H.size, e) H1) (hg : Grew H H1 n) (hfit : tZ x + 1 ≤ B.1 ∧ tY x + n ≤ B.2) : yI w A B (sTN x n e) H0 H1 locs := by
  obtain ⟨h1, h2, h3, h4, h5, h6, h7, h8⟩ := hI
  obtain ⟨g1, g2, g3⟩ := hg
  have hU := yK_new (x := x) (n := n) (e := e)
  rw [h4] at he
  refine ⟨hU ▸ h1.push h4.symm he g2, hU ▸ h2.push h1 h4.symm (h8 _ (Nat.le_refl _)), ⟨Nat.le_trans h3.1 (by omega), fun q q1 q2 => (g2 q (Nat.lt_of_lt_of_le q1 h3.1)).trans (h3.2.1 q q1 q2), h3.2.2⟩, ?_, ?_, hfit.1, ⟨hfit.2, Nat.le_trans h7.2 (show tY x ≤ tY x + n by omega)⟩, fun q hq => h8 q (Nat.le_trans (Nat.le_succ _) hq)⟩
  · rw [g1, h4]; rfl
  · rw [g3, h5]; rfl
theorem y_dgetR {β : Type} {C0 : String} {T : u_T} {N ci k index q : Nat} {f : Option Nat → Option β} {r : β} (C : tCx w A p s m args meth c cc nL own ret0) (hI : yI w A B x s.heap H locs) (hf : (dgR x q ci k).bind f = some r) (hc : clz[ci]? = some (C0, T, N)) (hin : ∀ w ∈ u_ws C0 T N, w ∈ lw_all) (hk : k < N) (hlink : Cond.fieldLink own index C0 (T k).2.1 (T k).2.2.1 ∈ lw_all) (hsame : (T k).1 = C0) (hdg : decode cc pc = .ok (.getfield index, 3))
    (kk : ∀ v, f v = some r → W p l e R s m args below meth c H locs cells slots Q (F0 m (pc + 3) ls (va_rf v :: rest))) : W p l e R s m args below meth c H locs cells slots Q (F0 m pc ls (.ref q :: rest)) := by
  obtain ⟨v, hv, hk1⟩ := b1_some hf
  obtain ⟨fs, h1, h2⟩ := dgR_some hv
  exact va_get (D := wD w) (cl := clz) (ws := [(q, .inr (ci, fs))]) (own := own) (ref := C0) (C := C0) (T := T) (N := N) (ci := ci) C.1.1 C.1.2.1 C.1.2.2.2.2.1 hin C.1.2.2.2.1 C.2.1 (at_one (hI.at (yK_d h1))) 0 rfl hc k hk (C.1.2.2.2.2.1 _ hlink) (fun _ h => by rw [hsame] at h; exact h) h2 hdg (kk v hk1)
theorem y_dput {β : Type} {C0 : String} {T : u_T} {N ci k index q : Nat} {v : Value} {ty : FieldType} {f : TS → Option β} {r : β} (C : tCx w A p s m args meth c cc nL own ret0) (hI : yI w A B x s.heap H locs) (hf : (dpt x q ci k v).bind f = some r) (hc : clz[ci]? = some (C0, T, N)) (hin : ∀ w ∈ u_ws C0 T N, w ∈ lw_all) (ty0 : Nat → FieldType) (hty : ∀ k, k < N → parseFieldDescriptor (T k).2.2.1 = some (ty0 k)) (hnm : ∀ a, a < N → ∀ b, b < N → a ≠ b → (T a).2.1 ≠ (T b).2.1) (hk : k < N) (hlink : Cond.fieldLink own index C0 (T k).2.1 (T k).2.2.1 ∈ lw_all) (hsame : (T k).1 = C0) (hfin : (T k).2.2.2 = false) (hd : parseFieldDescriptor (T k).2.2.1 = some ty) (hn : narrow ty v = v) (hfit : fits ty v = true) (hdg : decode cc pc = .ok (.putfield index, 3))
    (kk : ∀ x1 H locs, yI w A B x1 s.heap H locs → f x1 = some r → W p l e R s m args below meth c H locs (tZ x1 - s.heap.size) (tY x1 - SL s.heap) Q (F0 m (pc + 3) ls rest)) : W p l e R s m args below meth c H locs cells slots Q (F0 m pc ls (v :: .ref q :: rest)) := by
  obtain ⟨x1, hx1, hk1⟩ := b1_some hf
  obtain ⟨fs, h1, h2, rfl⟩ := dpt_some hx1
  refine x_put (D := wD w) (own := own) (ref := C0) (C := C0) (T := T) (N := N) (ci := ci) C.1.1 C.1.2.1 C.1.2.2.2.2.1 hin ty0 hty hnm C.1.2.2.2.1 C.2.1 (hI.at (yK_d h1)) hc hk (C.1.2.2.2.2.1 _ hlink) (fun _ h => by rw [hsame] at h; exact h) hfin hd hn hfit h2 hdg fun H1 i g1 g2 => ?_
  have hI1 := yI.set (i := i) (e := dO ci (fs.set k v)) hI (yK_d h1) g1 g2 yK_dyn rfl rfl
  exact y_tight hI1 (kk _ _ _ hI1 hk1)
theorem y_dputF {β : Type} {C0 : String} {T : u_T} {N ci k index q : Nat} {v : Value} {ty : FieldType} {f : TS → Option β} {r : β} (C : tCx w A p s m args meth c cc nL own ret0) (hI : yI w A B x s.heap H locs) (hin2 : meth.name = "<init>") (hf : (dpt x q ci k v).bind f = some r) (hc : clz[ci]? = some (C0, T, N)) (hin : ∀ w ∈ u_ws C0 T N, w ∈ lw_all) (ty0 : Nat → FieldType) (hty : ∀ k, k < N → parseFieldDescriptor (T k).2.2.1 = some (ty0 k)) (hnm : ∀ a, a < N → ∀ b, b < N → a ≠ b → (T a).2.1 ≠ (T b).2.1) (hk : k < N) (hlink : Cond.fieldLink own index C0 (T k).2.1 (T k).2.2.1 ∈ lw_all) (hsame : (T k).1 = C0) (hown : own = C0) (hfin : (T k).2.2.2 = true) (hd : parseFieldDescriptor (T k).2.2.1 = some ty) (hn : narrow ty v = v) (hfit : fits ty v = true) (hdg : decode cc pc = .ok (.putfield index, 3))
    (kk : ∀ x1 H locs, yI w A B x1 s.heap H locs → f x1 = some r → W p l e R s m args below meth c H locs (tZ x1 - s.heap.size) (tY x1 - SL s.heap) Q (F0 m (pc + 3) ls rest)) : W p l e R s m args below meth c H locs cells slots Q (F0 m pc ls (v :: .ref q :: rest)) := by
  obtain ⟨x1, hx1, hk1⟩ := b1_some hf
  obtain ⟨fs, h1, h2, rfl⟩ := dpt_some hx1
  refine x_putF (D := wD w) (own := own) (ref := C0) (C := C0) (T := T) (N := N) (ci := ci) C.1.1 C.1.2.1 C.1.2.2.2.2.1 hin ty0 hty hnm C.1.2.2.2.1 C.2.1 (hI.at (yK_d h1)) hc hk (C.1.2.2.2.2.1 _ hlink) (fun _ h => by rw [hsame] at h; exact h) hfin hin2 (by rw [hsame, hown]) hd hn hfit h2 hdg fun H1 i g1 g2 => ?_
  have hI1 := yI.set (i := i) (e := dO ci (fs.set k v)) hI (yK_d h1) g1 g2 yK_dyn rfl rfl
  exact y_tight hI1 (kk _ _ _ hI1 hk1)
theorem y_new {β : Type} {fr lo : Nat} {C0 : String} {T : u_T} {N ci index : Nat} {fs : List Value} {f : Nat → TS → Option β} {r : β} (C : tCx w A p s m args meth c cc nL own ret0) (hI : yI w A B x s.heap H locs) (hf : b2 (alc B x N (dO ci fs)) f = some r) (hc : clz[ci]? = some (C0, T, N)) (hin : ∀ w ∈ u_ws C0 T N, w ∈ lw_all) (ty0 : Nat → FieldType) (hty : ∀ k, k < N → parseFieldDescriptor (T k).2.2.1 = some (ty0 k)) (hcl : Cond.classLink own index C0 ∈ lw_all) (hinst : Cond.instantiable C0 N ∈ lw_all) (hini : Cond.initialized C0 ∈ lw_all) (hfs : ∀ j, j < N → defaultValue (ty0 j) = vp_V fs j) (hdg : decode cc pc = .ok (.new index, 3))
    (kk : ∀ q x1 H locs, yI w A B x1 s.heap H locs → f q x1 = some r → W p l e (tRm B fr lo s.heap.size (SL s.heap)) s m args below meth c H locs (tZ x1 - s.heap.size) (tY x1 - SL s.heap) Q (F0 m (pc + 3) ls (.ref q :: rest))) : W p l e (tRm B fr lo s.heap.size (SL s.heap)) s m args below meth c H locs (tZ x - s.heap.size) (tY x - SL s.heap) Q (F0 m pc ls rest) := by
  obtain ⟨q, x1, hx1, hk1⟩ := b2_some hf
  obtain ⟨hfit, rfl, rfl⟩ := alc_some hx1
  have h3 := hI.2.2.1.1
  have h4 := hI.2.2.2.1
  have hy := hI.2.2.2.2.2.2.1.2
  refine x_new (D := wD w) (tys := tys w) C.1.1 C.1.2.1 C.1.2.2.2.2.1 hin ty0 hty C.1.2.2.2.1 hcl hinst hini C.2.1 hc hfs (show _ ≤ B.1 - _ by omega) (show _ ≤ B.2 - _ by omega) hdg fun H1 g1 g2 => ?_
  have hI1 := yI.new (e := dO ci fs) hI g1 g2 hfit
  rw [h4]
  exact y_tight hI1 (kk _ _ _ _ hI1 hk1)
theorem y_newI {β : Type} {fr lo : Nat} {atype : ArrayType} {code : Nat} {ty : FieldType} {n : Int32} {N' : Nat} {f : Nat → TS → Option β} {r : β} (C : tCx w A p s m args meth c cc nL own ret0) (hI : yI w A B x s.heap H locs) (hf : b2 (alc B x N' (dI code N' (fun _ => 0))) f = some r) (ht : (tys w)[code]? = some (wc w code, ty)) (hcc : code = 0 ∨ code = 1) (harr : Cond.arrayClass (newarray.typeOf atype) ∈ lw_all) (hty : newarray.typeOf atype = ty) (hn : ¬ n < 0) (hN : n.toNatClampNeg = N') (hbytes : N' * componentBytes ty ≤ 536870912) (hdg : decode cc pc = .ok (.newarray atype, 2))
    (kk : ∀ q x1 H locs, yI w A B x1 s.heap H locs → f q x1 = some r → W p l e (tRm B fr lo s.heap.size (SL s.heap)) s m args below meth c H locs (tZ x1 - s.heap.size) (tY x1 - SL s.heap) Q (F0 m (pc + 2) ls (.ref q :: rest))) : W p l e (tRm B fr lo s.heap.size (SL s.heap)) s m args below meth c H locs (tZ x - s.heap.size) (tY x - SL s.heap) Q (F0 m pc ls (.int n :: rest)) := by
  obtain ⟨q, x1, hx1, hk1⟩ := b2_some hf
  obtain ⟨hfit, rfl, rfl⟩ := alc_some hx1
  have h3 := hI.2.2.1.1
  have h4 := hI.2.2.2.1
  have hy := hI.2.2.2.2.2.2.1.2
  have hra := (C.2.1.2 code _ ht).2
  have hcl : s.vm.findClass ("[" ++ ty.toString) = some (wc w code) ∧ defaultValue ty = .int 0 := by
    rcases hcc with rfl | rfl <;> cases ht <;> exact ⟨hra, rfl⟩
  refine x_newI (D := wD w) C.1.1 C.1.2.1 (C.1.2.2.2.2.1 _ harr) hty hcl.2 hcl.1 hn hN hbytes (show _ ≤ B.1 - _ by omega) (show _ ≤ B.2 - _ by omega) hdg fun H1 g1 g2 => ?_
  have hI1 := yI.new (e := dI code N' (fun _ => 0)) hI g1 g2 hfit
  rw [h4]
  exact y_tight hI1 (kk _ _ _ _ hI1 hk1)
theorem y_newR {β : Type} {fr lo : Nat} {code index : Nat} {E : String} {n : Int32} {f : Nat → TS → Option β} {r : β} (C : tCx w A p s m args meth c cc nL own ret0) (hI : yI w A B x s.heap H locs) (hf : (if n < 0 ∨ 536870912 < n.toNatClampNeg * 4 then none else b2 (alc B x n.toNatClampNeg (dR code n.toNatClampNeg (fun _ => none))) f) = some r) (ht : (tys w)[code]? = some (wc w code, .object E)) (hao : E ∈ nA) (hclink : Cond.classLink own index E ∈ lw_all) (hdg : decode cc pc = .ok (.anewarray index, 3))
    (kk : ∀ q x1 H locs, yI w A B x1 s.heap H locs → f q x1 = some r → W p l e (tRm B fr lo s.heap.size (SL s.heap)) s m args below meth c H locs (tZ x1 - s.heap.size) (tY x1 - SL s.heap) Q (F0 m (pc + 3) ls (.ref q :: rest))) : W p l e (tRm B fr lo s.heap.size (SL s.heap)) s m args below meth c H locs (tZ x - s.heap.size) (tY x - SL s.heap) Q (F0 m pc ls (.int n :: rest)) := by
  by_cases hneg : n < 0 ∨ 536870912 < n.toNatClampNeg * 4
  · rw [if_pos hneg] at hf; cases hf
  rw [if_neg hneg] at hf
  obtain ⟨q, x1, hx1, hk1⟩ := b2_some hf
  obtain ⟨hfit, rfl, rfl⟩ := alc_some hx1
  have h3 := hI.2.2.1.1
  have h4 := hI.2.2.2.1
  have hy := hI.2.2.2.2.2.2.1.2
  obtain ⟨-, -, -, -, -, hra⟩ := (C.2.1.2 code _ ht).2
  refine x_newR (D := wD w) C.1.1 C.1.2.1 C.1.2.2.2.1 (C.1.2.2.2.2.1 _ hclink) (C.2.2.2.2.2.1.2.2.2.2 _ hao) hra (fun q => hneg (Or.inl q)) rfl (by omega) (show _ ≤ B.1 - _ by omega) (show _ ≤ B.2 - _ by omega) hdg fun H1 g1 g2 => ?_
  have hI1 := yI.new (e := dR code n.toNatClampNeg (fun _ => none)) hI g1 g2 hfit
  rw [h4]
  exact y_tight hI1 (kk _ _ _ _ hI1 hk1)
theorem y_newR1 {β : Type} {code index : Nat} {E : String} {n : Int32} {f : Nat → TS → Option β} {r : β} (C : tCx w A p s m args meth c cc nL own ret0) (hI : yI w A B x s.heap H locs) (hf : b2 (nwR B x code n) f = some r) (ht : (tys w)[code]? = some (wc w code, .object E)) (hao : E ∈ nA) (hclink : Cond.classLink own index E ∈ lw_all) (hdg : decode cc pc = .ok (.anewarray index, 3))
    (kk : ∀ q x1 H locs, yI w A B x1 s.heap H locs → f q x1 = some r → W p l e (tRm B fr lo s.heap.size (SL s.heap)) s m args below meth c H locs (tZ x1 - s.heap.size) (tY x1 - SL s.heap) Q (F0 m (pc + 3) ls (.ref q :: rest))) : W p l e (tRm B fr lo s.heap.size (SL s.heap)) s m args below meth c H locs (tZ x - s.heap.size) (tY x - SL s.heap) Q (F0 m pc ls (.int n :: rest)) := by
  refine y_newR (code := code) C hI (r := r) (f := f) ?_ ht hao hclink hdg kk
  unfold nwR at hf
  by_cases h : n < 0 ∨ 536870912 < n.toNatClampNeg * 4
  · rw [if_pos h] at hf; cases hf
  · rw [if_neg h] at hf ⊢; exact hf
theorem yI.fit {mc ms : Nat} (hI : yI w A B x s.heap H locs) (h1 : mc = B.1 - tZ x) (h2 : ms = B.2 - tY x) : (tZ x - s.heap.size) + mc ≤ B.1 - s.heap.size ∧ (tY x - SL s.heap) + ms ≤ B.2 - SL s.heap := by
  have h3 := hI.2.2.1.1
  have h4 := hI.2.2.2.1
  have h6 := hI.2.2.2.2.2.1
  have h7 := hI.2.2.2.2.2.2.1
  omega
theorem yB_of (C : tCx w A p s m args meth c cc nL own ret0) (hI : yI w A B x s.heap H locs) : ∀ U : State, U.heap = H → s.WarmedH U.vm → yB w A B x U := fun U hU hW =>
  ⟨va_K.moved hW.alike C.2.1, C.2.2.later hI.2.2.1 hU hW, by rw [hU]; exact hI.1, hI.2.1, by rw [hU]; exact hI.2.2.2.1, by rw [hU]; exact hI.2.2.2.2.1, hI.2.2.2.2.2.1, hI.2.2.2.2.2.2.1.1, hI.2.2.2.2.2.2.2⟩
theorem y_back {st0 : List Value} {v : Option Value} {x1 : TS} {a : Array Value} (hI : yI w A B x s.heap H locs) (run : va_Run p l e R s m args below meth c H locs cells slots (B.1 - tZ x) (B.2 - tY x) (F0 m pc ls st0) rest (yQ w A B v x1 a) A)
    (kk : ∀ H locs, yI w A B x1 s.heap H locs → W p l e R s m args below meth c H locs (tZ x1 - s.heap.size) (tY x1 - SL s.heap) Q (F0 m (pc + 3) ls (v.toList ++ rest))) : W p l e R s m args below meth c H locs cells slots Q (F0 m pc ls st0) := by
  intro T hT X
  obtain ⟨v9, st₀, t, T', L, h0, X', hL, e1, -, ⟨hw, hP1, hD1, hF, hs1, hs2, hs3, hs4, hs6⟩, st⟩ := run T hT X
  cases hw
  have hS := hI.2.2.1
  have hF1 : H.size ≤ t.heap.size ∧ ∀ q : Nat, q < H.size → ¬ A q → t.heap[q]? = H[q]? := by
    obtain ⟨f1, f2⟩ := hF
    rw [h0] at f1 f2
    exact ⟨f1, f2⟩
  rw [h0] at hs6
  have hzz : tZ x ≤ tZ x1 := by rw [← hI.2.2.2.1, ← hs1]; exact hF1.1
  have hI1 : yI w A B x1 s.heap T'.heap (locs ++ L) := ⟨by rw [e1]; exact hP1, hD1, ⟨Nat.le_trans hS.1 (by rw [e1]; exact hF1.1), fun q h1 h2 => by rw [e1, hF1.2 q (Nat.lt_of_lt_of_le h1 hS.1) h2]; exact hS.2.1 q h1 h2, fun q hq => by
      rcases List.mem_append.mp hq with h | h
      · exact hS.2.2 q h
      · exact hL q h⟩, by rw [e1]; exact hs1, by rw [e1]; exact hs2, hs3, ⟨hs4, Nat.le_trans hI.2.2.2.2.2.2.1.2 (by rw [← hI.2.2.2.2.1]; exact hs6)⟩, fun q hq => hI.2.2.2.2.2.2.2 q (Nat.le_trans hzz hq)⟩
  obtain ⟨t2, a1, b1⟩ := y_tight hI1 (kk T'.heap (locs ++ L) hI1) T' rfl X'
  exact ⟨t2, st t2 a1, b1⟩
theorem y_callIN0 {index maxL n fr1 lo1 b : Nat} {y : MethodName} {bytes : ByteArray} {As st0 : List Value} {v : Option Value} {x1 : TS}
    (C : tCx w A p s m args meth c cc nL own ret0) (hI : yI w A B x s.heap H locs) (hM : yMet l y (ws_ y bytes maxL none) fr1 lo1 (.ref b :: As) w A B x v x1) (hy1 : y.name = "<init>") (hin : Cond.instanceMethod y ∈ lw_all) (hl : (own, index, y, "TwelveChain") ∈ nM) (cw : cN y bytes maxL none n) (hR : fr1 + 1 ≤ fr ∧ 8 + (maxL + 11) + lo1 ≤ lo)
    (hn : As.length = n) (hsize : ls.size = nL) (hst : st0 = As.reverse ++ .ref b :: rest) (hW : (rest.map fun v => v.category).sum ≤ 8) (hdg : decode cc pc = .ok (.invokespecial index, 3))
    (kk : ∀ H locs, yI w A B x1 s.heap H locs → W p l e (tRm B fr lo s.heap.size (SL s.heap)) s m args below meth c H locs (tZ x1 - s.heap.size) (tY x1 - SL s.heap) Q (F0 m (pc + 3) ls (v.toList ++ rest))) : W p l e (tRm B fr lo s.heap.size (SL s.heap)) s m args below meth c H locs (tZ x - s.heap.size) (tY x - SL s.heap) Q (F0 m pc ls st0) := by
  obtain ⟨hx, hb, hml, hown, hts, -, -⟩ := C.1
  have hnest := C.2.2.2.2.2.1.2.1 _ hl
  exact y_back hI (va_runIN (l := l) (e := e) (R := tRm B fr lo s.heap.size (SL s.heap)) (below := below) (meth := meth) (H := H) (locs := locs) (As := As) (rest := rest) (g := F0 m pc ls st0) (nL := nL) (Ts := lw_all) (index := index) (n := n) (host := "TwelveChain") ⟨hx, hb, hml, hown, hts⟩ hM
    ⟨va_cnB n hts cw.1 rfl rfl rfl hnest (hts _ cw.2.1) cw.2.2 hR, hy1, hts _ hin⟩ ⟨yB_blind, fun U hU hW => ⟨rfl, yB_of C hI U hU hW⟩⟩ rfl hn hsize hst (lv_room hW) hdg (hI.fit rfl rfl)) kk
theorem y_cINv {β : Type} {index maxL n fr1 lo1 b : Nat} {y : MethodName} {bytes : ByteArray} {As st0 : List Value} {F : Option TS} {f : TS → Option β} {r : β} (C : tCx w A p s m args meth c cc nL own ret0) (hI : yI w A B x s.heap H locs) (hf : Option.bind F f = some r) (hM : ∀ x1, F = some x1 → yMet l y (ws_ y bytes maxL none) fr1 lo1 (.ref b :: As) w A B x none x1) (hy1 : y.name = "<init>") (hin : Cond.instanceMethod y ∈ lw_all) (hl : (own, index, y, "TwelveChain") ∈ nM) (cw : cN y bytes maxL none n) (hR : fr1 + 1 ≤ fr ∧ 8 + (maxL + 11) + lo1 ≤ lo)
    (hn : As.length = n) (hsize : ls.size = nL) (hst : st0 = As.reverse ++ .ref b :: rest) (hW : (rest.map fun v => v.category).sum ≤ 8) (hdg : decode cc pc = .ok (.invokespecial index, 3))
    (kk : ∀ x1 H locs, yI w A B x1 s.heap H locs → f x1 = some r → W p l e (tRm B fr lo s.heap.size (SL s.heap)) s m args below meth c H locs (tZ x1 - s.heap.size) (tY x1 - SL s.heap) Q (F0 m (pc + 3) ls rest)) : W p l e (tRm B fr lo s.heap.size (SL s.heap)) s m args below meth c H locs (tZ x - s.heap.size) (tY x - SL s.heap) Q (F0 m pc ls st0) := by
  obtain ⟨x1, hv, hk⟩ := b1_some hf
  exact y_callIN0 C hI (hM x1 hv) hy1 hin hl cw hR hn hsize hst hW hdg (fun H locs hI1 => kk x1 H locs hI1 hk)
theorem y_post {v : Option Value} (hI : yI w A B x s.heap H locs) : ∀ t : State, t.heap = H → s.WarmedH t.vm → yQ w A B v x args s (.returned v) t := fun t ht _ =>
  ⟨rfl, by rw [ht]; exact hI.1, hI.2.1, hI.2.2.1.F ht, by rw [ht]; exact hI.2.2.2.1, by rw [ht]; exact hI.2.2.2.2.1, hI.2.2.2.2.2.1, hI.2.2.2.2.2.2.1.1, hI.2.2.2.2.2.2.1.2⟩
theorem y_out {g : JFrame} {v : Option Value} (hI : yI w A B x s.heap H locs) (kk : W p l e (tRm B fr lo s.heap.size (SL s.heap)) s m args below meth c H locs (B.1 - s.heap.size) (B.2 - SL s.heap) Q g) : W p l e (tRm B fr lo s.heap.size (SL s.heap)) s m args below meth c H locs (tZ x - s.heap.size) (tY x - SL s.heap) Q g := by
  have h6 := hI.2.2.2.2.2.1
  have h7 := hI.2.2.2.2.2.2.1.1
  exact W.widen (by omega) (by omega) kk
theorem y_vret {x1 : TS} (C : tCx w A p s m args meth c cc nL own none) (hI : yI w A B x s.heap H locs) (hf : some x = some x1) (hdg : decode cc pc = .ok (.return_, 1)) :
    W p l e (tRm B fr lo s.heap.size (SL s.heap)) s m args below meth c H locs (tZ x - s.heap.size) (tY x - SL s.heap) (MQ below (yQ w A B none x1) args s (B.1 - s.heap.size) (B.2 - SL s.heap) A) (F0 m pc ls []) := by
  cases hf
  exact y_out (v := none) hI (W.vret C.1.1 C.1.2.1 C.1.2.2.2.2.2.1 (y_post hI) hI.2.2.1.2.2 hdg C.1.2.2.2.2.2.2)
theorem y_start {y : MethodName} {maxL : Nat} {ret : Option FieldType} {av : List Value} {v : Option Value} {x1 : TS} {lv : List (Nat × Value)} (hy : plainFor y = true) (hcl : y.cls = own) (hlen : (lg_sl av).length ≤ maxL) (hlv : lv_args 0 av = lv)
    (body : ∀ (p : Program) (e : Env) (s : State) (m : MethodId) (args : Array Value) (below : List Frame) (meth : Method) (c : Code) (ls : Array Slot) (H : Heap) (locs : List Loc), tCx w A p s m args meth c cc maxL own ret → meth.name = y.name → yI w A B x s.heap H locs → lv_has ls maxL lv → W p l e (tRm B fr lo s.heap.size (SL s.heap)) s m args below meth c H locs (tZ x - s.heap.size) (tY x - SL s.heap) (MQ below (yQ w A B v x1) args s (B.1 - s.heap.size) (B.2 - SL s.heap) A) (F0 m 0 ls [])) :
    yMet l y (ws_ y cc maxL ret) fr lo av w A B x v x1 := by
  refine g_ofW (cc := cc) (maxL := maxL) (ret := ret) hy rfl ?_
  intro p e s m args below meth c s₁ B0 hml hv
  obtain ⟨rfl, hK, hE, hP, hD, hz, hsl, h1, h2, h3⟩ := hv
  have hts := atoms_spec (ws := ws_ y cc maxL ret) B0.pre
  have hown : s.vm.findClass own = some m.cls := by rw [← hcl]; exact findClass_of_methodNamed B0.named
  have hl := lv_entry av (n := maxL) hlen
  rw [lg_entry_eq]
  subst hlv
  have hI : yI w A B x s.heap s.heap [] := ⟨hP, hD, va_S.rf, hz, hsl, h1, ⟨h2, by omega⟩, h3⟩
  have k := body p e s m _ below meth c _ s.heap [] ⟨⟨B0.exec, B0.bytes, hml, hown, fun w h => hts w (List.mem_cons_of_mem _ h), B0.returns, B0.notSynchronized⟩, hK, hE⟩ (name_of_methodNamed B0.named B0.method).1 hI hl
  rw [← hz, ← hsl] at k ⊢
  rw [Nat.sub_self, Nat.sub_self] at k
  exact k
end YR
