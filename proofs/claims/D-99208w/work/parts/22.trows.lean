/-! THE SYSTEM's FRAME AND ROWS -/
set_option maxRecDepth 100000
/-! nest mates and other words that ride at a contract's start -/
def nF : List (String × Nat × String × String × String × String) := [("TwelveChain$Chain", 99, "TwelveChain", "lawHas", "[I", "TwelveChain"), ("TwelveChain$Chain", 181, "TwelveChain", "plan", "[LTwelveChain$Deed;", "TwelveChain"), ("TwelveChain$Chain", 75, "TwelveChain", "many", "I", "TwelveChain")]
def nM : List (String × Nat × MethodName × String) := [("TwelveChain", 120, ⟨"TwelveChain$Text", "<init>", "()V"⟩, "TwelveChain"), ("TwelveChain", 149, ⟨"TwelveChain$Chain", "<init>", "(LTwelveChain;)V"⟩, "TwelveChain"), ("TwelveChain", 354, ⟨"TwelveChain$Phone", "<init>", "(III)V"⟩, "TwelveChain"), ("TwelveChain", 357, ⟨"TwelveChain$Wrote", "<init>", "(II)V"⟩, "TwelveChain"), ("TwelveChain", 347, ⟨"TwelveChain$Deed", "<init>", "(IIIII)V"⟩, "TwelveChain"),
  ("TwelveChain$Chain", 31, ⟨"TwelveChain", "copies", "([I[I)V"⟩, "TwelveChain"), ("TwelveChain$Chain", 71, ⟨"TwelveChain", "has", "(II)Z"⟩, "TwelveChain"), ("TwelveChain$Chain", 109, ⟨"TwelveChain", "tells", "(III)I"⟩, "TwelveChain"), ("TwelveChain$Chain", 208, ⟨"TwelveChain", "writes", "(III)V"⟩, "TwelveChain"),
  ("TwelveChain$Number", 1, ⟨"TwelveChain$Term", "<init>", "()V"⟩, "TwelveChain"), ("TwelveChain$Word", 1, ⟨"TwelveChain$Term", "<init>", "()V"⟩, "TwelveChain"), ("TwelveChain$Two", 1, ⟨"TwelveChain$Term", "<init>", "()V"⟩, "TwelveChain"), ("TwelveChain$Not", 1, ⟨"TwelveChain$Term", "<init>", "()V"⟩, "TwelveChain")]
def nD : List MethodName := [⟨"TwelveChain$Term", "of", "([I)I"⟩]
def nC : List (String × String) := [("TwelveChain$Number", "TwelveChain$Term"), ("TwelveChain$Word", "TwelveChain$Term"), ("TwelveChain$Two", "TwelveChain$Term"), ("TwelveChain$Not", "TwelveChain$Term"), ("TwelveChain$Fault", "TwelveChain$Fault")]
def nA : List String := ["java/lang/String", "TwelveChain$Term", "TwelveChain$Deed", "TwelveChain$Phone", "TwelveChain$Wrote", "TwelveChain$Chain"]
def tX (U : State) : Prop := (∀ q ∈ nF, va_Nw (.fieldLinkNest q.1 q.2.1 q.2.2.1 q.2.2.2.1 q.2.2.2.2.1 q.2.2.2.2.2) U) ∧ (∀ q ∈ nM, va_Nw (.methodLinkNest q.1 q.2.1 q.2.2.1 q.2.2.2) U) ∧ (∀ q ∈ nD, va_Nw (.declares q) U) ∧ (∀ q ∈ nC, va_Nw (.castable q.1 q.2) U) ∧ ∀ q ∈ nA, va_AO q U
theorem tX.warm {s U : State} (hW : s.WarmedH U.vm) (h : tX s) : tX U :=
  ⟨fun q hq => va_Nw.warmF hW (h.1 q hq), fun q hq => va_Nw.warmM hW (h.2.1 q hq), fun q hq => va_Nw.warmD hW (h.2.2.1 q hq), fun q hq => va_Nw.warmC hW (h.2.2.2.1 q hq), fun q hq => (h.2.2.2.2 q hq).moved hW.alike⟩
theorem tX.same {u U : State} (hv : U.vm = u.vm) (h : tX u) : tX U :=
  ⟨fun q hq => va_Nw.same rfl hv.symm (h.1 q hq), fun q hq => va_Nw.same rfl hv.symm (h.2.1 q hq), fun q hq => va_Nw.same rfl hv.symm (h.2.2.1 q hq), fun q hq => va_Nw.same rfl hv.symm (h.2.2.2.1 q hq), fun q hq => (h.2.2.2.2 q hq).moved (by rw [hv]; exact Vm.Alike.refl _)⟩
def tST : List (Nat × String × Nat) := [(44, "ready", 0), (46, "leave", 1), (48, "give", 2), (50, "cost", 3), (52, "ask", 4), (54, "bridge", 5), (56, "pay", 6), (58, "paper", 7), (60, "on", 8), (62, "link", 9), (64, "from", 10), (66, "to", 11), (68, "day", 12), (74, "price", 13), (76, "purse", 14), (78, "worth", 15), (80, "slow", 16), (82, "links", 17), (84, "bridged", 18), (86, "lacks", 19), (91, "when", 20), (93, "or", 21), (95, "and", 22), (97, "not", 23), (247, ";+-*/()<=>", 24)]
def tkN : List String := ["END", "NONE", "WORD", "NUMBER", "SIGN"]
/-- statics of Throwable: a reference or null -/
def tZs (A : Nat → Prop) (U : State) : Prop := va_Zq "java/lang/Throwable" "UNASSIGNED_STACK" "[Ljava/lang/StackTraceElement;" A U U.heap ∧ va_Zq "java/lang/Throwable" "SUPPRESSED_SENTINEL" "Ljava/util/List;" A U U.heap ∧ vaAA U
theorem tZs.later {A : Nat → Prop} {s U : State} {H : Heap} {locs : List Loc} (h : tZs A s) (hS : va_S A s.heap H locs) (hU : U.heap = H) (hW : s.WarmedH U.vm) : tZs A U :=
  ⟨by rw [hU]; exact (h.1.kept hS.2.1).moved hW.alike, by rw [hU]; exact (h.2.1.kept hS.2.1).moved hW.alike, h.2.2.moved hW.alike⟩
theorem tZs.same {A : Nat → Prop} {u U : State} (hh : U.heap = u.heap) (hv : U.vm = u.vm) (h : tZs A u) : tZs A U :=
  ⟨by rw [hh]; exact h.1.moved (by rw [hv]; exact Vm.Alike.refl _), by rw [hh]; exact h.2.1.moved (by rw [hv]; exact Vm.Alike.refl _), h.2.2.moved (by rw [hv]; exact Vm.Alike.refl _)⟩
def tE (w : tO) (A : Nat → Prop) (U : State) : Prop := gE (wk w) A U ∧ (∀ q ∈ tST, vk_R RX0 q.1 q.2.1 ((wk w).1 q.2.2) U) ∧ va_En "TwelveChain$Token" "LTwelveChain$Token;" tkN [] (wt w) A U U.heap ∧ tX U ∧ tZs A U
theorem tE.later {w : tO} {A : Nat → Prop} {s U : State} {H : Heap} {locs : List Loc} (h : tE w A s) (hS : va_S A s.heap H locs) (hU : U.heap = H) (hW : s.WarmedH U.vm) : tE w A U :=
  ⟨h.1.later hS hU hW, fun q hq => (h.2.1 q hq).warm hW, by rw [hU]; exact (h.2.2.1.kept hS.2.1).moved hW.alike, h.2.2.2.1.warm hW, h.2.2.2.2.later hS hU hW⟩
theorem tE.same {w : tO} {A : Nat → Prop} {u U : State} (hh : U.heap = u.heap) (hv : U.vm = u.vm) (h : tE w A u) : tE w A U :=
  ⟨h.1.same hh hv, fun q hq => (h.2.1 q hq).same hv, by rw [hh]; exact h.2.2.1.moved (by rw [hv]; exact Vm.Alike.refl _), h.2.2.2.1.same hv, h.2.2.2.2.same hh hv⟩
abbrev tys (w : tO) : List (ClassId × FieldType) := [(wc w 0, .int), (wc w 1, .byte), (wc w 2, .object "java/lang/String"), (wc w 3, .array (.object "java/lang/String")), (wc w 4, .object "TwelveChain$Term"), (wc w 5, .object "TwelveChain$Deed"), (wc w 6, .object "TwelveChain$Phone"), (wc w 7, .object "TwelveChain$Wrote"), (wc w 8, .object "TwelveChain$Chain")]
/-- who is ahead is there -/
def kH (w : tO) (x : TS) : Prop := ∀ i j, tH x i = some j → j < wn w
def tI (w : tO) (A : Nat → Prop) (B : Nat × Nat) (x : TS) (H0 H : Heap) (locs : List Loc) : Prop :=
  kP w (TK w x) H ∧ kD A (TK w x) ∧ va_S A H0 H locs ∧ H.size = tZ x ∧ SL H = tY x ∧ tZ x ≤ B.1 ∧ (tY x ≤ B.2 ∧ SL H0 ≤ tY x) ∧ (∀ q, tZ x ≤ q → A q) ∧ (3 ≤ wn w ∧ kH w x) ∧ wn w ≤ 9
def tCx (w : tO) (A : Nat → Prop) (p : Program) (s : State) (m : MethodId) (args : Array Value) (meth : Method) (c : Code) (cc : ByteArray) (nL : Nat) (own : String) (ret : Option FieldType) : Prop :=
  gC p s m args meth c cc nL own ret ∧ va_K (wD w) clz (tys w) s ∧ tE w A s
def tQ (w : tO) (A : Nat → Prop) (B : Nat × Nat) (v : Option Value) (x : TS) : Array Value → State → Outcome → State → Prop := fun _ st o t =>
  o = .returned v ∧ kP w (TK w x) t.heap ∧ kD A (TK w x) ∧ va_F A st t ∧ t.heap.size = tZ x ∧ SL t.heap = tY x ∧ tZ x ≤ B.1 ∧ tY x ≤ B.2 ∧ kH w x ∧ SL st.heap ≤ tY x
def tB (w : tO) (A : Nat → Prop) (B : Nat × Nat) (x : TS) (U : State) : Prop :=
  va_K (wD w) clz (tys w) U ∧ tE w A U ∧ kP w (TK w x) U.heap ∧ kD A (TK w x) ∧ U.heap.size = tZ x ∧ SL U.heap = tY x ∧ tZ x ≤ B.1 ∧ tY x ≤ B.2 ∧ (∀ q, tZ x ≤ q → A q) ∧ (3 ≤ wn w ∧ kH w x) ∧ wn w ≤ 9
/-- a room that leaves what B leaves -/
abbrev tRm (B : Nat × Nat) (fr lo z y : Nat) : Room := { frames := fr, cells := B.1 - z, slots := B.2 - y, locals := lo }
def tMet (l : Launch) (y : MethodName) (ws : List Cond) (fr lo : Nat) (av : List Value) (w : tO) (A : Nat → Prop) (B : Nat × Nat) (x : TS) (v : Option Value) (x1 : TS) : Prop :=
  Met l y ws (tRm B fr lo (tZ x) (tY x)) (va_Pc av (tB w A B x)) (tQ w A B v x1) (B.1 - tZ x) (B.2 - tY x) A
theorem tB_blind {av : List Value} {w : tO} {A : Nat → Prop} {B : Nat × Nat} {x : TS} : FrameBlind (va_Pc av (tB w A B x)) :=
  va_Pc_blind fun a U g mk h => ⟨va_K.moved (u := U) (U := U.calling g mk a) (Vm.Alike.refl U.vm) h.1, tE.same (u := U) rfl rfl h.2.1, h.2.2⟩
section TR
variable {p : Program} {l : Launch} {e : Env} {R : Room} {s : State} {m : MethodId} {args : Array Value} {below : List Frame} {meth : Method} {c : Code} {H : Heap} {locs : List Loc} {Q : State → Prop}
variable {cc : ByteArray} {pc nL cells slots : Nat} {ls : Array Slot} {rest : List Value} {w : tO} {A : Nat → Prop} {B : Nat × Nat} {x : TS} {ret0 : Option FieldType} {own : String}
/-- the counters as the state has them -/
theorem t_tight {g : JFrame} (hI : tI w A B x s.heap H locs) (kk : W p l e R s m args below meth c H locs (tZ x - s.heap.size) (tY x - SL s.heap) Q g) : W p l e R s m args below meth c H locs cells slots Q g := by
  have h1 := hI.2.2.1.1
  have h2 := hI.2.2.2.1
  have h3 := hI.2.2.2.2.1
  exact W.tight (by omega) (by omega) kk
theorem tI.at {k : Nat} {q : Nat × DE} {H0 : Heap} (hI : tI w A B x H0 H locs) (hk : TK w x k = some q) : tAt w q H := hI.1 k q hk
/-- what a store makes of the invariant -/
theorem tI.set {k a i : Nat} {e0 e : DE} {x1 : TS} {H0 H1 : Heap} (hI : tI w A B x H0 H locs) (hk : TK w x k = some (a, e0)) (he : tAt w (a, e) H1) (hb : But H H1 a) (hU : kU (TK w x) k (a, e) = TK w x1) (hz : tZ x1 = tZ x) (hy : tY x1 = tY x) (hh : tH x1 = tH x) : tI w A B x1 H0 H1 (locs ++ [⟨a, i⟩]) := by
  obtain ⟨h1, h2, h3, h4, h5, h6, h7, h8, h9⟩ := hI
  obtain ⟨b1, b2, b3⟩ := hb
  exact ⟨hU ▸ h1.set h2 hk he b2, hU ▸ h2.set hk, h3.put b1 b2 (h2.2 k _ hk), by rw [b1, hz]; exact h4, by rw [b3, hy]; exact h5, by rw [hz]; exact h6, by rw [hy]; exact h7, by rw [hz]; exact h8, ⟨h9.1.1, fun i j q => h9.1.2 i j (by rw [← hh]; exact q)⟩, h9.2⟩
theorem tI.new {n : Nat} {e : DE} {H0 H1 : Heap} (hI : tI w A B x H0 H locs) (he : tAt w (H.size, e) H1) (hg : Grew H H1 n) (hfit : tZ x + 1 ≤ B.1 ∧ tY x + n ≤ B.2) : tI w A B (sTN x n e) H0 H1 locs := by
  obtain ⟨h1, h2, h3, h4, h5, h6, h7, h8, h9⟩ := hI
  obtain ⟨g1, g2, g3⟩ := hg
  have hU := TK_new (w := w) (x := x) (n := n) (e := e)
  rw [h4] at he
  refine ⟨hU ▸ h1.push h4.symm he g2, hU ▸ h2.push h1 h4.symm (h8 _ (Nat.le_refl _)), ⟨Nat.le_trans h3.1 (by omega), fun q q1 q2 => (g2 q (Nat.lt_of_lt_of_le q1 h3.1)).trans (h3.2.1 q q1 q2), h3.2.2⟩, ?_, ?_, hfit.1, ⟨hfit.2, Nat.le_trans h7.2 (show tY x ≤ tY x + n by omega)⟩, fun q hq => h8 q (Nat.le_trans (Nat.le_succ _) hq), h9⟩
  · rw [g1, h4]; rfl
  · rw [g3, h5]; rfl
theorem TK_0 : TK w x 0 = some (wa w 37, dO 0 (TF w x)) := rfl
theorem TK_a {k : Nat} (hk : isTA k = true) (hk2 : k + 1 ≠ 3 ∧ k + 1 ≠ 27 ∧ k < 99) : TK w x (k + 1) = some (wa w k, dI (tcode k) (tlen k) (tA x k)) := by
  unfold TK TKf
  rw [if_pos (by omega), if_neg (by omega), if_neg hk2.1, if_neg hk2.2.1]
  simp only [Nat.add_sub_cancel]
  rw [if_pos hk]
theorem TK_c {j r : Nat} (hj : j < wn w) (hn : wn w ≤ 9) (hr : r < 6) : TK w x (100 + (6 * j + r)) = some (wG w j r, if r = 5 then dO 1 (CF w x j) else dI 0 12 (tC x j r)) := by
  unfold TK TKc
  rw [if_neg (by omega), if_pos (by omega), show 100 + (6 * j + r) - 100 = 6 * j + r by omega, show (6 * j + r) / 6 = j by omega, show (6 * j + r) % 6 = r by omega, if_pos hj]
theorem TK_w {t : Nat} (ht : t < 7) : TK w x (40 + t) = some (wa w (40 + t), dR 2 (wrow t).length (fun i => ((wrow t)[i]?).map (wk w).1)) := by
  rcases (by omega : t = 0 ∨ t = 1 ∨ t = 2 ∨ t = 3 ∨ t = 4 ∨ t = 5 ∨ t = 6) with h | h | h | h | h | h | h <;> subst h <;> rfl
theorem TK_d {q : Nat} {e : DE} (h : tD x q = some e) : TK w x (1000 + q) = some (q, e) := by
  unfold TK
  rw [if_neg (by omega), if_neg (by omega), show 1000 + q - 1000 = q by omega, h]
  rfl
/-! fields of the main object -/
theorem t_get {k index : Nat} {v : Value} (C : tCx w A p s m args meth c cc nL own ret0) (hI : tI w A B x s.heap H locs) (hk : k < 37) (hlink : Cond.fieldLink own index RX0 (TX0 k).2.1 (TX0 k).2.2.1 ∈ lw_all) (hsame : (TX0 k).1 = RX0) (hv : (TF w x)[k]? = some v) (hdg : decode cc pc = .ok (.getfield index, 3))
    (kk : W p l e R s m args below meth c H locs cells slots Q (F0 m (pc + 3) ls (v :: rest))) : W p l e R s m args below meth c H locs cells slots Q (F0 m pc ls (.ref (wa w 37) :: rest)) :=
  va_get (D := wD w) (cl := clz) (ws := [(wa w 37, .inr (0, TF w x))]) (own := own) (ref := RX0) (C := RX0) (T := TX0) (N := 37) (ci := 0) C.1.1 C.1.2.1 C.1.2.2.2.2.1 in_X0 C.1.2.2.2.1 C.2.1 (at_one (hI.at TK_0)) 0 rfl rfl k hk (C.1.2.2.2.2.1 _ hlink) (fun _ h => by rw [hsame] at h; exact h) hv hdg kk
theorem t_getN {k index : Nat} {v : Value} (C : tCx w A p s m args meth c cc nL own ret0) (hI : tI w A B x s.heap H locs) (hk : k < 37) (hlink : va_Nw (.fieldLinkNest own index RX0 (TX0 k).2.1 (TX0 k).2.2.1 "TwelveChain") s) (hsame : (TX0 k).1 = RX0) (hv : (TF w x)[k]? = some v) (hdg : decode cc pc = .ok (.getfield index, 3))
    (kk : W p l e R s m args below meth c H locs cells slots Q (F0 m (pc + 3) ls (v :: rest))) : W p l e R s m args below meth c H locs cells slots Q (F0 m pc ls (.ref (wa w 37) :: rest)) :=
  va_getN (D := wD w) (cl := clz) (ws := [(wa w 37, .inr (0, TF w x))]) (own := own) (ref := RX0) (host := "TwelveChain") (C := RX0) (T := TX0) (N := 37) (ci := 0) C.1.1 C.1.2.1 C.1.2.2.2.2.1 in_X0 C.1.2.2.2.1 C.2.1 (at_one (hI.at TK_0)) 0 rfl rfl k hk (va_Nw.use rfl hlink) (fun _ h => by rw [hsame] at h; exact h) hv hdg kk
theorem t_put {k index : Nat} {v : Value} {ty : FieldType} {x1 : TS} (C : tCx w A p s m args meth c cc nL own ret0) (hI : tI w A B x s.heap H locs) (hk : k < 37) (hlink : Cond.fieldLink own index RX0 (TX0 k).2.1 (TX0 k).2.2.1 ∈ lw_all) (hsame : (TX0 k).1 = RX0) (hfin : (TX0 k).2.2.2 = false) (hd : parseFieldDescriptor (TX0 k).2.2.1 = some ty) (hn : narrow ty v = v) (hfit : fits ty v = true)
    (hset : TF w x1 = (TF w x).set k v) (h1 : tA x1 = tA x) (h2 : tC x1 = tC x) (h3 : tF x1 = tF x) (h4 : tH x1 = tH x) (h5 : tD x1 = tD x) (hz : tZ x1 = tZ x) (hy : tY x1 = tY x) (hdg : decode cc pc = .ok (.putfield index, 3))
    (kk : ∀ H locs, tI w A B x1 s.heap H locs → W p l e R s m args below meth c H locs (tZ x1 - s.heap.size) (tY x1 - SL s.heap) Q (F0 m (pc + 3) ls rest)) : W p l e R s m args below meth c H locs cells slots Q (F0 m pc ls (v :: .ref (wa w 37) :: rest)) := by
  refine x_put (D := wD w) (own := own) (ref := RX0) (C := RX0) (T := TX0) (N := 37) (ci := 0) C.1.1 C.1.2.1 C.1.2.2.2.2.1 in_X0 tyX0 tyX0_ok nmX0 C.1.2.2.2.1 C.2.1 (hI.at TK_0) rfl hk (C.1.2.2.2.2.1 _ hlink) (fun _ h => by rw [hsame] at h; exact h) hfin hd hn hfit hk hdg fun H1 i g1 g2 => ?_
  have hI1 := tI.set (i := i) (x1 := x1) (e := dO 0 ((TF w x).set k v)) hI TK_0 g1 g2 (TK_main (by rw [hset]) h1 h2 h3 h4 h5) hz hy h4
  exact t_tight hI1 (kk _ _ hI1)
/-! its arrays -/
theorem t_ald {β : Type} {k : Nat} {i : Int32} {f : Int32 → Option β} {r : β} (C : tCx w A p s m args meth c cc nL own ret0) (hI : tI w A B x s.heap H locs) (hk : isTA k = true) (hk2 : k + 1 ≠ 3 ∧ k + 1 ≠ 27 ∧ k < 99) (hc : tcode k = 0) (hf : (rd (tlen k) (tA x k) i).bind f = some r) (hdg : decode cc pc = .ok (.iaload, 1))
    (kk : ∀ v, f v = some r → W p l e R s m args below meth c H locs cells slots Q (F0 m (pc + 1) ls (.int v :: rest))) : W p l e R s m args below meth c H locs cells slots Q (F0 m pc ls (.int i :: .ref (wa w k) :: rest)) := by
  obtain ⟨v, hv, hk1⟩ := b1_some hf
  obtain ⟨hin, rfl⟩ := rd_some hv
  have hat := hI.at (TK_a hk hk2)
  rw [hc] at hat
  exact va_iald (ws := [(wa w k, .inl (wc w 0, tlen k, .inl (tA x k)))]) C.1.1 C.1.2.1 C.2.1 (at_one hat) 0 0 rfl rfl hin hdg (kk _ hk1)
theorem t_bald {β : Type} {i : Int32} {f : Int32 → Option β} {r : β} (C : tCx w A p s m args meth c cc nL own ret0) (hI : tI w A B x s.heap H locs) (hf : (rd 400 (tA x 0) i).bind f = some r) (hdg : decode cc pc = .ok (.baload, 1))
    (kk : ∀ v, f v = some r → W p l e R s m args below meth c H locs cells slots Q (F0 m (pc + 1) ls (.int v :: rest))) : W p l e R s m args below meth c H locs cells slots Q (F0 m pc ls (.int i :: .ref (wa w 0) :: rest)) := by
  obtain ⟨v, hv, hk1⟩ := b1_some hf
  obtain ⟨hin, rfl⟩ := rd_some hv
  exact va_bald (ws := [(wa w 0, .inl (wc w 1, 400, .inl (tA x 0)))]) C.1.1 C.1.2.1 C.2.1 (at_one (hI.at (TK_a (k := 0) rfl (by decide)))) 0 1 rfl rfl hin hdg (kk _ hk1)
def wrT (x : TS) (k : Nat) (i v : Int32) : Option TS := if i < 0 ∨ tlen k ≤ i.toNatClampNeg then none else some (sTA x k (upd (tA x k) i.toNatClampNeg v))
theorem wrT_some {x x1 : TS} {k : Nat} {i v : Int32} (h : wrT x k i v = some x1) : vp_in i (tlen k) ∧ x1 = sTA x k (upd (tA x k) i.toNatClampNeg v) := by
  unfold wrT at h
  by_cases hc : i < 0 ∨ tlen k ≤ i.toNatClampNeg
  · rw [if_pos hc] at h; cases h
  · rw [if_neg hc] at h; cases h; exact ⟨hc, rfl⟩
theorem wrT_in {x : TS} {k : Nat} {i v : Int32} (h : vp_in i (tlen k)) : wrT x k i v = some (sTA x k (upd (tA x k) i.toNatClampNeg v)) := if_neg h
theorem t_ast {β : Type} {k : Nat} {i v : Int32} {f : TS → Option β} {r : β} (C : tCx w A p s m args meth c cc nL own ret0) (hI : tI w A B x s.heap H locs) (hk : isTA k = true) (hk2 : k + 1 ≠ 3 ∧ k + 1 ≠ 27 ∧ k < 99) (hc : tcode k = 0) (hf : (wrT x k i v).bind f = some r) (hdg : decode cc pc = .ok (.iastore, 1))
    (kk : ∀ x1 H locs, tI w A B x1 s.heap H locs → f x1 = some r → W p l e R s m args below meth c H locs (tZ x1 - s.heap.size) (tY x1 - SL s.heap) Q (F0 m (pc + 1) ls rest)) : W p l e R s m args below meth c H locs cells slots Q (F0 m pc ls (.int v :: .int i :: .ref (wa w k) :: rest)) := by
  obtain ⟨x1, hx1, hk1⟩ := b1_some hf
  obtain ⟨hin, rfl⟩ := wrT_some hx1
  have hat := hI.at (TK_a hk hk2)
  have hat0 := hat
  rw [hc] at hat
  refine x_iast (D := wD w) C.1.1 C.1.2.1 (C.2.1.2 0 _ rfl).1 hat hin hdg fun H1 j g1 g2 => ?_
  have hI1 := tI.set (i := j) (e := dI (tcode k) (tlen k) (upd (tA x k) i.toNatClampNeg v)) hI (TK_a hk hk2) (by rw [hc]; exact g1) g2 (TK_arr hk hk2) rfl rfl rfl
  exact t_tight hI1 (kk _ _ _ hI1 hk1)
theorem t_bast {β : Type} {i v : Int32} {f : TS → Option β} {r : β} (C : tCx w A p s m args meth c cc nL own ret0) (hI : tI w A B x s.heap H locs) (hf : (wrT x 0 i (vp_nar .byte v)).bind f = some r) (hdg : decode cc pc = .ok (.bastore, 1))
    (kk : ∀ x1 H locs, tI w A B x1 s.heap H locs → f x1 = some r → W p l e R s m args below meth c H locs (tZ x1 - s.heap.size) (tY x1 - SL s.heap) Q (F0 m (pc + 1) ls rest)) : W p l e R s m args below meth c H locs cells slots Q (F0 m pc ls (.int v :: .int i :: .ref (wa w 0) :: rest)) := by
  obtain ⟨x1, hx1, hk1⟩ := b1_some hf
  obtain ⟨hin, rfl⟩ := wrT_some hx1
  refine x_bast (D := wD w) C.1.1 C.1.2.1 (C.2.1.2 1 _ rfl).1 (hI.at (TK_a (k := 0) rfl (by decide))) hin hdg fun H1 j g1 g2 => ?_
  have hI1 := tI.set (i := j) (e := dI 1 400 (upd (tA x 0) i.toNatClampNeg (vp_nar .byte v))) hI (TK_a (k := 0) rfl (by decide)) g1 g2 (TK_arr (k := 0) rfl (by decide)) rfl rfl rfl
  exact t_tight hI1 (kk _ _ _ hI1 hk1)
/-! a chain: its fields, its arrays -/
theorem tc_at {j : Nat} {H0 : Heap} (hI : tI w A B x H0 H locs) (hj : j < wn w) : va_at (wD w) clz (wG w j 5, .inr (1, CF w x j)) H := by
  have h := hI.at (TK_c (r := 5) hj hI.2.2.2.2.2.2.2.2.2 (by decide))
  rw [if_pos rfl] at h
  exact h
theorem tc_arr {j r : Nat} {H0 : Heap} (hI : tI w A B x H0 H locs) (hj : j < wn w) (hr : r < 5) : va_at (wD w) clz (wG w j r, .inl (wc w 0, 12, .inl (tC x j r))) H := by
  have h := hI.at (TK_c hj hI.2.2.2.2.2.2.2.2.2 (by omega : r < 6))
  rw [if_neg (by omega)] at h
  exact h
theorem t_cget {j k index : Nat} {v : Value} (C : tCx w A p s m args meth c cc nL own ret0) (hI : tI w A B x s.heap H locs) (hj : j < wn w) (hk : k < 14) (hlink : Cond.fieldLink own index RX2 (TX2 k).2.1 (TX2 k).2.2.1 ∈ lw_all) (hsame : (TX2 k).1 = RX2) (hv : (CF w x j)[k]? = some v) (hdg : decode cc pc = .ok (.getfield index, 3))
    (kk : W p l e R s m args below meth c H locs cells slots Q (F0 m (pc + 3) ls (v :: rest))) : W p l e R s m args below meth c H locs cells slots Q (F0 m pc ls (.ref (wG w j 5) :: rest)) :=
  va_get (D := wD w) (cl := clz) (ws := [(wG w j 5, .inr (1, CF w x j))]) (own := own) (ref := RX2) (C := RX2) (T := TX2) (N := 14) (ci := 1) C.1.1 C.1.2.1 C.1.2.2.2.2.1 in_X2 C.1.2.2.2.1 C.2.1 (at_one (tc_at hI hj)) 0 rfl rfl k hk (C.1.2.2.2.2.1 _ hlink) (fun _ h => by rw [hsame] at h; exact h) hv hdg kk
theorem t_cput {j k index : Nat} {v : Int32} {ty : FieldType} (C : tCx w A p s m args meth c cc nL own ret0) (hI : tI w A B x s.heap H locs) (hj : j < wn w) (hk : k < 14) (hlink : Cond.fieldLink own index RX2 (TX2 k).2.1 (TX2 k).2.2.1 ∈ lw_all) (hsame : (TX2 k).1 = RX2) (hfin : (TX2 k).2.2.2 = false) (hd : parseFieldDescriptor (TX2 k).2.2.1 = some ty) (hn : narrow ty (.int v) = .int v) (hfit : fits ty (.int v) = true)
    (hset : CF w (sTF x j k v) j = (CF w x j).set k (.int v)) (hoth : ∀ j', j' ≠ j → CF w (sTF x j k v) j' = CF w x j') (hdg : decode cc pc = .ok (.putfield index, 3))
    (kk : ∀ H locs, tI w A B (sTF x j k v) s.heap H locs → W p l e R s m args below meth c H locs (tZ (sTF x j k v) - s.heap.size) (tY (sTF x j k v) - SL s.heap) Q (F0 m (pc + 3) ls rest)) : W p l e R s m args below meth c H locs cells slots Q (F0 m pc ls (.int v :: .ref (wG w j 5) :: rest)) := by
  have hn9 := hI.2.2.2.2.2.2.2.2.2
  have hkey := TK_c (w := w) (x := x) (r := 5) hj hn9 (by decide)
  rw [if_pos rfl] at hkey
  refine x_put (D := wD w) (own := own) (ref := RX2) (C := RX2) (T := TX2) (N := 14) (ci := 1) C.1.1 C.1.2.1 C.1.2.2.2.2.1 in_X2 tyX2 tyX2_ok nmX2 C.1.2.2.2.1 C.2.1 (tc_at hI hj) rfl hk (C.1.2.2.2.2.1 _ hlink) (fun _ h => by rw [hsame] at h; exact h) hfin hd hn hfit hk hdg fun H1 i g1 g2 => ?_
  have hI1 := tI.set (i := i) (x1 := sTF x j k v) (e := dO 1 ((CF w x j).set k (.int v))) hI hkey g1 g2 (TK_chain hj hn9 (by decide) rfl (by rw [if_pos rfl, hset]) (fun _ _ => rfl) (fun j' r' hr' hne => by
    by_cases h5 : r' = 5
    · subst h5
      rw [if_pos rfl, if_pos rfl, hoth j' (fun q => hne ⟨q, rfl⟩)]
    · rw [if_neg h5, if_neg h5]; rfl) rfl) rfl rfl rfl
  exact t_tight hI1 (kk _ _ hI1)
theorem t_cald {β : Type} {j r : Nat} {i : Int32} {f : Int32 → Option β} {z : β} (C : tCx w A p s m args meth c cc nL own ret0) (hI : tI w A B x s.heap H locs) (hj : j < wn w) (hr : r < 5) (hf : (rd 12 (tC x j r) i).bind f = some z) (hdg : decode cc pc = .ok (.iaload, 1))
    (kk : ∀ v, f v = some z → W p l e R s m args below meth c H locs cells slots Q (F0 m (pc + 1) ls (.int v :: rest))) : W p l e R s m args below meth c H locs cells slots Q (F0 m pc ls (.int i :: .ref (wG w j r) :: rest)) := by
  obtain ⟨v, hv, hk1⟩ := b1_some hf
  obtain ⟨hin, rfl⟩ := rd_some hv
  exact va_iald (ws := [(wG w j r, .inl (wc w 0, 12, .inl (tC x j r)))]) C.1.1 C.1.2.1 C.2.1 (at_one (tc_arr hI hj hr)) 0 0 rfl rfl hin hdg (kk _ hk1)
def wrC (x : TS) (j r : Nat) (i v : Int32) : Option TS := if i < 0 ∨ 12 ≤ i.toNatClampNeg then none else some (sTC x j r (upd (tC x j r) i.toNatClampNeg v))
theorem wrC_some {x x1 : TS} {j r : Nat} {i v : Int32} (h : wrC x j r i v = some x1) : vp_in i 12 ∧ x1 = sTC x j r (upd (tC x j r) i.toNatClampNeg v) := by
  unfold wrC at h
  by_cases hc : i < 0 ∨ 12 ≤ i.toNatClampNeg
  · rw [if_pos hc] at h; cases h
  · rw [if_neg hc] at h; cases h; exact ⟨hc, rfl⟩
theorem wrC_in {x : TS} {j r : Nat} {i v : Int32} (h : vp_in i 12) : wrC x j r i v = some (sTC x j r (upd (tC x j r) i.toNatClampNeg v)) := if_neg h
theorem TK_carr {j r : Nat} {f : Nat → Int32} (hj : j < wn w) (hn : wn w ≤ 9) (hr : r < 5) : kU (TK w x) (100 + (6 * j + r)) (wG w j r, dI 0 12 f) = TK w (sTC x j r f) := by
  refine TK_chain hj hn (by omega) rfl ?_ (fun _ _ => rfl) (fun j' r' hr' hne => ?_) rfl
  · rw [if_neg (by omega)]
    simp [tC, sTC]
  · by_cases h5 : r' = 5
    · rw [if_pos h5, if_pos h5]; rfl
    · rw [if_neg h5, if_neg h5]
      simp [tC, sTC, hne]
theorem t_cast {β : Type} {j r : Nat} {i v : Int32} {f : TS → Option β} {z : β} (C : tCx w A p s m args meth c cc nL own ret0) (hI : tI w A B x s.heap H locs) (hj : j < wn w) (hr : r < 5) (hf : (wrC x j r i v).bind f = some z) (hdg : decode cc pc = .ok (.iastore, 1))
    (kk : ∀ x1 H locs, tI w A B x1 s.heap H locs → f x1 = some z → W p l e R s m args below meth c H locs (tZ x1 - s.heap.size) (tY x1 - SL s.heap) Q (F0 m (pc + 1) ls rest)) : W p l e R s m args below meth c H locs cells slots Q (F0 m pc ls (.int v :: .int i :: .ref (wG w j r) :: rest)) := by
  obtain ⟨x1, hx1, hk1⟩ := b1_some hf
  obtain ⟨hin, rfl⟩ := wrC_some hx1
  have hn9 := hI.2.2.2.2.2.2.2.2.2
  have hkey := TK_c (w := w) (x := x) (r := r) hj hn9 (by omega)
  rw [if_neg (by omega)] at hkey
  refine x_iast (D := wD w) C.1.1 C.1.2.1 (C.2.1.2 0 _ rfl).1 (tc_arr hI hj hr) hin hdg fun H1 j2 g1 g2 => ?_
  have hI1 := tI.set (i := j2) (e := dI 0 12 (upd (tC x j r) i.toNatClampNeg v)) hI hkey g1 g2 (TK_carr hj hn9 hr) rfl rfl rfl
  exact t_tight hI1 (kk _ _ _ hI1 hk1)
/-! rows of words -/
def wlen (t : Nat) : Option Int32 := if t < 7 then some (nI (wrow t).length) else none
def wget (t : Nat) (i : Int32) : Option Nat := if t < 7 then (if i < 0 ∨ (wrow t).length ≤ i.toNatClampNeg then none else (wrow t)[i.toNatClampNeg]?) else none
theorem wget_lt {t i' : Nat} {i : Int32} (h : wget t i = some i') : i' < 25 := by
  unfold wget at h
  by_cases ht : t < 7
  · rw [if_pos ht] at h
    by_cases hc : i < 0 ∨ (wrow t).length ≤ i.toNatClampNeg
    · rw [if_pos hc] at h; cases h
    · rw [if_neg hc] at h
      have hm := List.mem_of_getElem? h
      rcases (by omega : t = 0 ∨ t = 1 ∨ t = 2 ∨ t = 3 ∨ t = 4 ∨ t = 5 ∨ t = 6) with e | e | e | e | e | e | e <;> subst e <;> simp [wrow] at hm <;> omega
  · rw [if_neg ht] at h; cases h
theorem t_wlen {β : Type} {t : Nat} {f : Int32 → Option β} {r : β} (C : tCx w A p s m args meth c cc nL own ret0) (hI : tI w A B x s.heap H locs) (hf : (wlen t).bind f = some r) (hdg : decode cc pc = .ok (.arraylength, 1))
    (kk : ∀ v, f v = some r → W p l e R s m args below meth c H locs cells slots Q (F0 m (pc + 1) ls (.int v :: rest))) : W p l e R s m args below meth c H locs cells slots Q (F0 m pc ls (.ref (wa w (40 + t)) :: rest)) := by
  obtain ⟨v, hv, hk1⟩ := b1_some hf
  unfold wlen at hv
  by_cases ht : t < 7
  · rw [if_pos ht] at hv
    cases hv
    exact va_alen (ws := [(wa w (40 + t), .inl (wc w 2, (wrow t).length, .inr (.inr (.inr (.inr fun i => ((wrow t)[i]?).map (wk w).1)))))]) C.1.1 C.1.2.1 C.2.1 (at_one (hI.at (TK_w ht))) 0 2 rfl rfl rfl hdg (kk _ hk1)
  · rw [if_neg ht] at hv; cases hv
theorem t_wald {β : Type} {t : Nat} {i : Int32} {f : Nat → Option β} {r : β} (C : tCx w A p s m args meth c cc nL own ret0) (hI : tI w A B x s.heap H locs) (hf : (wget t i).bind f = some r) (hdg : decode cc pc = .ok (.aaload, 1))
    (kk : ∀ v, v < 25 → f v = some r → W p l e R s m args below meth c H locs cells slots Q (F0 m (pc + 1) ls (.ref ((wk w).1 v) :: rest))) : W p l e R s m args below meth c H locs cells slots Q (F0 m pc ls (.int i :: .ref (wa w (40 + t)) :: rest)) := by
  obtain ⟨v, hv, hk1⟩ := b1_some hf
  have hlt := wget_lt hv
  unfold wget at hv
  by_cases ht : t < 7
  · rw [if_pos ht] at hv
    by_cases hc : i < 0 ∨ (wrow t).length ≤ i.toNatClampNeg
    · rw [if_pos hc] at hv; cases hv
    · rw [if_neg hc] at hv
      refine va_aldq (ws := [(wa w (40 + t), .inl (wc w 2, (wrow t).length, .inr (.inr (.inr (.inr fun i => ((wrow t)[i]?).map (wk w).1)))))]) C.1.1 C.1.2.1 C.2.1 (at_one (hI.at (TK_w ht))) 0 2 rfl rfl hc hdg ?_
      simp only [hv, Option.map_some]
      exact kk v hlt hk1
  · rw [if_neg ht] at hv; cases hv
/-- firstWords[k] -/
def fwget (i : Int32) : Option Nat := if i < 0 ∨ 4 ≤ i.toNatClampNeg then none else some i.toNatClampNeg
theorem t_fwald {β : Type} {i : Int32} {f : Nat → Option β} {r : β} (C : tCx w A p s m args meth c cc nL own ret0) (hI : tI w A B x s.heap H locs) (hf : (fwget i).bind f = some r) (hdg : decode cc pc = .ok (.aaload, 1))
    (kk : ∀ v, f v = some r → W p l e R s m args below meth c H locs cells slots Q (F0 m (pc + 1) ls (.ref (wa w (40 + v)) :: rest))) : W p l e R s m args below meth c H locs cells slots Q (F0 m pc ls (.int i :: .ref (wa w 2) :: rest)) := by
  obtain ⟨v, hv, hk1⟩ := b1_some hf
  unfold fwget at hv
  by_cases hc : i < 0 ∨ 4 ≤ i.toNatClampNeg
  · rw [if_pos hc] at hv; cases hv
  · rw [if_neg hc] at hv
    cases hv
    have hat : tAt w (wa w 2, dR 3 4 (fun i => some (wa w (40 + i)))) H := hI.at (k := 3) rfl
    have hlt : i.toNatClampNeg < 4 := Nat.not_le.mp fun q => hc (Or.inr q)
    exact W.aald (v := va_rf (some (wa w (40 + i.toNatClampNeg)))) (ty := .array (.object "java/lang/String")) C.1.1 C.1.2.1 hat ((C.2.1.2 3 _ rfl).1 4 (fun j => va_rf (some (wa w (40 + j))))) rfl (fun q => by cases q) (by show ¬ (i < 0 ∨ (arrV _ _ _).slots.size ≤ _); rw [arrV_size]; exact hc) (by show (arrV _ _ _).slots[_]? = _; rw [arrV_read _ _ hlt]) rfl rfl hdg (kk _ hk1)
end TR
