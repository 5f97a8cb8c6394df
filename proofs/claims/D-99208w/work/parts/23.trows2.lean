/-! MORE ROWS OF THE SYSTEM: what it makes, tokens, calls, ends -/
set_option maxRecDepth 100000
def dgI (x : TS) (q ci k : Nat) : Option Int32 := match tD x q with
  | some (.inl (c, fs)) => if c = ci then (match fs[k]? with
    | some (.int v) => some v
    | _ => none) else none
  | _ => none
def dgR (x : TS) (q ci k : Nat) : Option (Option Nat) := match tD x q with
  | some (.inl (c, fs)) => if c = ci then (match fs[k]? with
    | some (.ref a) => some (some a)
    | some .null => some none
    | _ => none) else none
  | _ => none
theorem dgI_some {x : TS} {q ci k : Nat} {v : Int32} (h : dgI x q ci k = some v) : ∃ fs, tD x q = some (dO ci fs) ∧ fs[k]? = some (.int v) := by
  unfold dgI at h
  split at h
  · rename_i c fs he
    by_cases hc : c = ci
    · subst hc
      rw [if_pos rfl] at h
      split at h
      · rename_i v1 hv; cases h; exact ⟨fs, he, hv⟩
      · cases h
    · rw [if_neg hc] at h; cases h
  · cases h
theorem dgR_some {x : TS} {q ci k : Nat} {v : Option Nat} (h : dgR x q ci k = some v) : ∃ fs, tD x q = some (dO ci fs) ∧ fs[k]? = some (va_rf v) := by
  unfold dgR at h
  split at h
  · rename_i c fs he
    by_cases hc : c = ci
    · subst hc
      rw [if_pos rfl] at h
      split at h
      · rename_i a hv; cases h; exact ⟨fs, he, hv⟩
      · rename_i hv; cases h; exact ⟨fs, he, hv⟩
      · cases h
    · rw [if_neg hc] at h; cases h
  · cases h
/-- a field of an object that was made -/
def dpt (x : TS) (q ci k : Nat) (v : Value) : Option TS := match tD x q with
  | some (.inl (c, fs)) => if c = ci ∧ k < fs.length then some (sTD x q (dO ci (fs.set k v))) else none
  | _ => none
theorem dpt_some {x x1 : TS} {q ci k : Nat} {v : Value} (h : dpt x q ci k v = some x1) : ∃ fs, tD x q = some (dO ci fs) ∧ k < fs.length ∧ x1 = sTD x q (dO ci (fs.set k v)) := by
  unfold dpt at h
  split at h
  · rename_i c fs he
    by_cases hc : c = ci ∧ k < fs.length
    · rw [if_pos hc] at h
      obtain ⟨hc1, hc2⟩ := hc
      subst hc1
      cases h
      exact ⟨fs, he, hc2, rfl⟩
    · rw [if_neg hc] at h; cases h
  · cases h
def dlR (x : TS) (q code : Nat) : Option Int32 := match tD x q with
  | some (.inr (.inr (.inl (c, n, _)))) => if c = code then some (nI n) else none
  | _ => none
def dRg (x : TS) (q code : Nat) (i : Int32) : Option (Option Nat) := match tD x q with
  | some (.inr (.inr (.inl (c, n, f)))) => if c = code then (if i < 0 ∨ n ≤ i.toNatClampNeg then none else some (f i.toNatClampNeg)) else none
  | _ => none
/-- which kind of object lies in which array -/
def okst (code ci : Nat) : Bool := (code == 4 && (ci == 5 || ci == 6 || ci == 7 || ci == 8)) || (code == 5 && ci == 11) || (code == 6 && ci == 9) || (code == 7 && ci == 10)
def dRs (x : TS) (q code : Nat) (i : Int32) (v : Nat) : Option TS := match tD x q, tD x v with
  | some (.inr (.inr (.inl (c, n, f)))), some (.inl (ci, _)) => if c = code ∧ okst code ci = true ∧ ¬ (i < 0 ∨ n ≤ i.toNatClampNeg) then some (sTD x q (dR code n (va_up f i.toNatClampNeg (some v)))) else none
  | _, _ => none
def dIg (x : TS) (q : Nat) (i : Int32) : Option Int32 := match tD x q with
  | some (.inr (.inl (c, n, f))) => if c = 0 then rd n f i else none
  | _ => none
def dIs (x : TS) (q : Nat) (i v : Int32) : Option TS := match tD x q with
  | some (.inr (.inl (c, n, f))) => if c = 0 ∧ ¬ (i < 0 ∨ n ≤ i.toNatClampNeg) then some (sTD x q (dI 0 n (upd f i.toNatClampNeg v))) else none
  | _ => none
theorem dlR_some {x : TS} {q code : Nat} {v : Int32} (h : dlR x q code = some v) : ∃ n f, tD x q = some (dR code n f) ∧ v = nI n := by
  unfold dlR at h
  split at h
  · rename_i c n f he
    by_cases hc : c = code
    · subst hc; rw [if_pos rfl] at h; cases h; exact ⟨n, f, he, rfl⟩
    · rw [if_neg hc] at h; cases h
  · cases h
theorem dRg_some {x : TS} {q code : Nat} {i : Int32} {v : Option Nat} (h : dRg x q code i = some v) : ∃ n f, tD x q = some (dR code n f) ∧ vp_in i n ∧ f i.toNatClampNeg = v := by
  unfold dRg at h
  split at h
  · rename_i c n f he
    by_cases hc : c = code
    · subst hc; rw [if_pos rfl] at h
      by_cases hi : i < 0 ∨ n ≤ i.toNatClampNeg
      · rw [if_pos hi] at h; cases h
      · rw [if_neg hi] at h; cases h; exact ⟨n, f, he, hi, rfl⟩
    · rw [if_neg hc] at h; cases h
  · cases h
theorem dRs_some {x x1 : TS} {q code v : Nat} {i : Int32} (h : dRs x q code i v = some x1) : ∃ n f ci fs, tD x q = some (dR code n f) ∧ tD x v = some (dO ci fs) ∧ okst code ci = true ∧ vp_in i n ∧ x1 = sTD x q (dR code n (va_up f i.toNatClampNeg (some v))) := by
  unfold dRs at h
  split at h
  · rename_i c n f ci fs he hv
    by_cases hc : c = code ∧ okst code ci = true ∧ ¬ (i < 0 ∨ n ≤ i.toNatClampNeg)
    · rw [if_pos hc] at h
      obtain ⟨h1, h2, h3⟩ := hc
      subst h1
      cases h
      exact ⟨n, f, ci, fs, he, hv, h2, h3, rfl⟩
    · rw [if_neg hc] at h; cases h
  · cases h
theorem dIg_some {x : TS} {q : Nat} {i v : Int32} (h : dIg x q i = some v) : ∃ n f, tD x q = some (dI 0 n f) ∧ vp_in i n ∧ f i.toNatClampNeg = v := by
  unfold dIg at h
  split at h
  · rename_i c n f he
    by_cases hc : c = 0
    · subst hc; rw [if_pos rfl] at h; exact ⟨n, f, he, rd_some h⟩
    · rw [if_neg hc] at h; cases h
  · cases h
theorem dIs_some {x x1 : TS} {q : Nat} {i v : Int32} (h : dIs x q i v = some x1) : ∃ n f, tD x q = some (dI 0 n f) ∧ vp_in i n ∧ x1 = sTD x q (dI 0 n (upd f i.toNatClampNeg v)) := by
  unfold dIs at h
  split at h
  · rename_i c n f he
    by_cases hc : c = 0 ∧ ¬ (i < 0 ∨ n ≤ i.toNatClampNeg)
    · rw [if_pos hc] at h
      obtain ⟨h1, h2⟩ := hc
      subst h1
      cases h
      exact ⟨n, f, he, h2, rfl⟩
    · rw [if_neg hc] at h; cases h
  · cases h
theorem alc_some {B : Nat × Nat} {x : TS} {n : Nat} {e : DE} {q : Nat} {x1 : TS} (h : alc B x n e = some (q, x1)) : (tZ x + 1 ≤ B.1 ∧ tY x + n ≤ B.2) ∧ q = tZ x ∧ x1 = sTN x n e := by
  unfold alc at h
  by_cases hc : tZ x + 1 ≤ B.1 ∧ tY x + n ≤ B.2
  · rw [if_pos hc] at h; cases h; exact ⟨hc, rfl, rfl⟩
  · rw [if_neg hc] at h; cases h
def tok (i : Nat) : Option Nat := if i < 5 then some i else none
theorem tok_some {i v : Nat} (h : tok i = some v) : v < 5 ∧ v = i := by
  unfold tok at h
  by_cases hc : i < 5
  · rw [if_pos hc] at h; cases h; exact ⟨hc, rfl⟩
  · rw [if_neg hc] at h; cases h
/-- what is stored keeps -/
def fitC (v : Int32) : Option Int32 := if zc v = v ∧ fits .char (.int v) = true then some v else none
section TR2
variable {p : Program} {l : Launch} {e : Env} {R : Room} {s : State} {m : MethodId} {args : Array Value} {below : List Frame} {meth : Method} {c : Code} {H : Heap} {locs : List Loc} {Q : State → Prop}
variable {cc : ByteArray} {pc nL cells slots : Nat} {ls : Array Slot} {rest : List Value} {w : tO} {A : Nat → Prop} {B : Nat × Nat} {x : TS} {ret0 : Option FieldType} {own : String}
theorem t_dget {β : Type} {C0 : String} {T : u_T} {N ci k index q : Nat} {f : Int32 → Option β} {r : β} (C : tCx w A p s m args meth c cc nL own ret0) (hI : tI w A B x s.heap H locs) (hf : (dgI x q ci k).bind f = some r) (hc : clz[ci]? = some (C0, T, N)) (hin : ∀ w ∈ u_ws C0 T N, w ∈ lw_all) (hk : k < N) (hlink : Cond.fieldLink own index C0 (T k).2.1 (T k).2.2.1 ∈ lw_all) (hsame : (T k).1 = C0) (hdg : decode cc pc = .ok (.getfield index, 3))
    (kk : ∀ v, f v = some r → W p l e R s m args below meth c H locs cells slots Q (F0 m (pc + 3) ls (.int v :: rest))) : W p l e R s m args below meth c H locs cells slots Q (F0 m pc ls (.ref q :: rest)) := by
  obtain ⟨v, hv, hk1⟩ := b1_some hf
  obtain ⟨fs, h1, h2⟩ := dgI_some hv
  exact va_get (D := wD w) (cl := clz) (ws := [(q, .inr (ci, fs))]) (own := own) (ref := C0) (C := C0) (T := T) (N := N) (ci := ci) C.1.1 C.1.2.1 C.1.2.2.2.2.1 hin C.1.2.2.2.1 C.2.1 (at_one (hI.at (TK_d h1))) 0 rfl hc k hk (C.1.2.2.2.2.1 _ hlink) (fun _ h => by rw [hsame] at h; exact h) h2 hdg (kk v hk1)
theorem t_dgetR {β : Type} {C0 : String} {T : u_T} {N ci k index q : Nat} {f : Option Nat → Option β} {r : β} (C : tCx w A p s m args meth c cc nL own ret0) (hI : tI w A B x s.heap H locs) (hf : (dgR x q ci k).bind f = some r) (hc : clz[ci]? = some (C0, T, N)) (hin : ∀ w ∈ u_ws C0 T N, w ∈ lw_all) (hk : k < N) (hlink : Cond.fieldLink own index C0 (T k).2.1 (T k).2.2.1 ∈ lw_all) (hsame : (T k).1 = C0) (hdg : decode cc pc = .ok (.getfield index, 3))
    (kk : ∀ v, f v = some r → W p l e R s m args below meth c H locs cells slots Q (F0 m (pc + 3) ls (va_rf v :: rest))) : W p l e R s m args below meth c H locs cells slots Q (F0 m pc ls (.ref q :: rest)) := by
  obtain ⟨v, hv, hk1⟩ := b1_some hf
  obtain ⟨fs, h1, h2⟩ := dgR_some hv
  exact va_get (D := wD w) (cl := clz) (ws := [(q, .inr (ci, fs))]) (own := own) (ref := C0) (C := C0) (T := T) (N := N) (ci := ci) C.1.1 C.1.2.1 C.1.2.2.2.2.1 hin C.1.2.2.2.1 C.2.1 (at_one (hI.at (TK_d h1))) 0 rfl hc k hk (C.1.2.2.2.2.1 _ hlink) (fun _ h => by rw [hsame] at h; exact h) h2 hdg (kk v hk1)
/-- a reference known not to be null -/
theorem t_nn {β : Type} {g : List Value → JFrame} {o : Option Nat} {f : Nat → Option β} {r : β} (hf : o.bind f = some r) (kk : ∀ q, o = some q → f q = some r → W p l e R s m args below meth c H locs cells slots Q (g (.ref q :: rest))) : W p l e R s m args below meth c H locs cells slots Q (g (va_rf o :: rest)) := by
  obtain ⟨q, hq, hk1⟩ := b1_some hf
  subst hq
  exact kk q rfl hk1
theorem t_dput {β : Type} {C0 : String} {T : u_T} {N ci k index q : Nat} {v : Value} {ty : FieldType} {f : TS → Option β} {r : β} (C : tCx w A p s m args meth c cc nL own ret0) (hI : tI w A B x s.heap H locs) (hf : (dpt x q ci k v).bind f = some r) (hc : clz[ci]? = some (C0, T, N)) (hin : ∀ w ∈ u_ws C0 T N, w ∈ lw_all) (ty0 : Nat → FieldType) (hty : ∀ k, k < N → parseFieldDescriptor (T k).2.2.1 = some (ty0 k)) (hnm : ∀ a, a < N → ∀ b, b < N → a ≠ b → (T a).2.1 ≠ (T b).2.1) (hk : k < N) (hlink : Cond.fieldLink own index C0 (T k).2.1 (T k).2.2.1 ∈ lw_all) (hsame : (T k).1 = C0) (hfin : (T k).2.2.2 = false) (hd : parseFieldDescriptor (T k).2.2.1 = some ty) (hn : narrow ty v = v) (hfit : fits ty v = true) (hdg : decode cc pc = .ok (.putfield index, 3))
    (kk : ∀ x1 H locs, tI w A B x1 s.heap H locs → f x1 = some r → W p l e R s m args below meth c H locs (tZ x1 - s.heap.size) (tY x1 - SL s.heap) Q (F0 m (pc + 3) ls rest)) : W p l e R s m args below meth c H locs cells slots Q (F0 m pc ls (v :: .ref q :: rest)) := by
  obtain ⟨x1, hx1, hk1⟩ := b1_some hf
  obtain ⟨fs, h1, h2, rfl⟩ := dpt_some hx1
  refine x_put (D := wD w) (own := own) (ref := C0) (C := C0) (T := T) (N := N) (ci := ci) C.1.1 C.1.2.1 C.1.2.2.2.2.1 hin ty0 hty hnm C.1.2.2.2.1 C.2.1 (hI.at (TK_d h1)) hc hk (C.1.2.2.2.2.1 _ hlink) (fun _ h => by rw [hsame] at h; exact h) hfin hd hn hfit h2 hdg fun H1 i g1 g2 => ?_
  have hI1 := tI.set (i := i) (e := dO ci (fs.set k v)) hI (TK_d h1) g1 g2 TK_dyn rfl rfl rfl
  exact t_tight hI1 (kk _ _ _ hI1 hk1)
theorem t_dputF {β : Type} {C0 : String} {T : u_T} {N ci k index q : Nat} {v : Value} {ty : FieldType} {f : TS → Option β} {r : β} (C : tCx w A p s m args meth c cc nL own ret0) (hI : tI w A B x s.heap H locs) (hin2 : meth.name = "<init>") (hf : (dpt x q ci k v).bind f = some r) (hc : clz[ci]? = some (C0, T, N)) (hin : ∀ w ∈ u_ws C0 T N, w ∈ lw_all) (ty0 : Nat → FieldType) (hty : ∀ k, k < N → parseFieldDescriptor (T k).2.2.1 = some (ty0 k)) (hnm : ∀ a, a < N → ∀ b, b < N → a ≠ b → (T a).2.1 ≠ (T b).2.1) (hk : k < N) (hlink : Cond.fieldLink own index C0 (T k).2.1 (T k).2.2.1 ∈ lw_all) (hsame : (T k).1 = C0) (hown : own = C0) (hfin : (T k).2.2.2 = true) (hd : parseFieldDescriptor (T k).2.2.1 = some ty) (hn : narrow ty v = v) (hfit : fits ty v = true) (hdg : decode cc pc = .ok (.putfield index, 3))
    (kk : ∀ x1 H locs, tI w A B x1 s.heap H locs → f x1 = some r → W p l e R s m args below meth c H locs (tZ x1 - s.heap.size) (tY x1 - SL s.heap) Q (F0 m (pc + 3) ls rest)) : W p l e R s m args below meth c H locs cells slots Q (F0 m pc ls (v :: .ref q :: rest)) := by
  obtain ⟨x1, hx1, hk1⟩ := b1_some hf
  obtain ⟨fs, h1, h2, rfl⟩ := dpt_some hx1
  refine x_putF (D := wD w) (own := own) (ref := C0) (C := C0) (T := T) (N := N) (ci := ci) C.1.1 C.1.2.1 C.1.2.2.2.2.1 hin ty0 hty hnm C.1.2.2.2.1 C.2.1 (hI.at (TK_d h1)) hc hk (C.1.2.2.2.2.1 _ hlink) (fun _ h => by rw [hsame] at h; exact h) hfin hin2 (by rw [hsame, hown]) hd hn hfit h2 hdg fun H1 i g1 g2 => ?_
  have hI1 := tI.set (i := i) (e := dO ci (fs.set k v)) hI (TK_d h1) g1 g2 TK_dyn rfl rfl rfl
  exact t_tight hI1 (kk _ _ _ hI1 hk1)
theorem t_dlen {β : Type} {q code : Nat} {ty : FieldType} {f : Int32 → Option β} {r : β} (C : tCx w A p s m args meth c cc nL own ret0) (hI : tI w A B x s.heap H locs) (hf : (dlR x q code).bind f = some r) (ht : (tys w)[code]? = some (wc w code, ty)) (hdg : decode cc pc = .ok (.arraylength, 1))
    (kk : ∀ v, f v = some r → W p l e R s m args below meth c H locs cells slots Q (F0 m (pc + 1) ls (.int v :: rest))) : W p l e R s m args below meth c H locs cells slots Q (F0 m pc ls (.ref q :: rest)) := by
  obtain ⟨v, hv, hk1⟩ := b1_some hf
  obtain ⟨n, g, h1, rfl⟩ := dlR_some hv
  exact va_alen (ws := [(q, .inl (wc w code, n, .inr (.inr (.inr (.inr g)))))]) C.1.1 C.1.2.1 C.2.1 (at_one (hI.at (TK_d h1))) 0 code rfl ht rfl hdg (kk _ hk1)
theorem t_daldR {β : Type} {q code : Nat} {i : Int32} {E : String} {f : Option Nat → Option β} {r : β} (C : tCx w A p s m args meth c cc nL own ret0) (hI : tI w A B x s.heap H locs) (hf : (dRg x q code i).bind f = some r) (ht : (tys w)[code]? = some (wc w code, .object E)) (hdg : decode cc pc = .ok (.aaload, 1))
    (kk : ∀ v, f v = some r → W p l e R s m args below meth c H locs cells slots Q (F0 m (pc + 1) ls (va_rf v :: rest))) : W p l e R s m args below meth c H locs cells slots Q (F0 m pc ls (.int i :: .ref q :: rest)) := by
  obtain ⟨v, hv, hk1⟩ := b1_some hf
  obtain ⟨n, g, h1, h2, rfl⟩ := dRg_some hv
  exact va_aldq (ws := [(q, .inl (wc w code, n, .inr (.inr (.inr (.inr g)))))]) C.1.1 C.1.2.1 C.2.1 (at_one (hI.at (TK_d h1))) 0 code rfl ht h2 hdg (kk _ hk1)
theorem t_daldI {β : Type} {q : Nat} {i : Int32} {f : Int32 → Option β} {r : β} (C : tCx w A p s m args meth c cc nL own ret0) (hI : tI w A B x s.heap H locs) (hf : (dIg x q i).bind f = some r) (hdg : decode cc pc = .ok (.iaload, 1))
    (kk : ∀ v, f v = some r → W p l e R s m args below meth c H locs cells slots Q (F0 m (pc + 1) ls (.int v :: rest))) : W p l e R s m args below meth c H locs cells slots Q (F0 m pc ls (.int i :: .ref q :: rest)) := by
  obtain ⟨v, hv, hk1⟩ := b1_some hf
  obtain ⟨n, g, h1, h2, rfl⟩ := dIg_some hv
  exact va_iald (ws := [(q, .inl (wc w 0, n, .inl g))]) C.1.1 C.1.2.1 C.2.1 (at_one (hI.at (TK_d h1))) 0 0 rfl rfl h2 hdg (kk _ hk1)
theorem t_dastI {β : Type} {q : Nat} {i v : Int32} {f : TS → Option β} {r : β} (C : tCx w A p s m args meth c cc nL own ret0) (hI : tI w A B x s.heap H locs) (hf : (dIs x q i v).bind f = some r) (hdg : decode cc pc = .ok (.iastore, 1))
    (kk : ∀ x1 H locs, tI w A B x1 s.heap H locs → f x1 = some r → W p l e R s m args below meth c H locs (tZ x1 - s.heap.size) (tY x1 - SL s.heap) Q (F0 m (pc + 1) ls rest)) : W p l e R s m args below meth c H locs cells slots Q (F0 m pc ls (.int v :: .int i :: .ref q :: rest)) := by
  obtain ⟨x1, hx1, hk1⟩ := b1_some hf
  obtain ⟨n, g, h1, h2, rfl⟩ := dIs_some hx1
  refine x_iast (D := wD w) C.1.1 C.1.2.1 (C.2.1.2 0 _ rfl).1 (hI.at (TK_d h1)) h2 hdg fun H1 j g1 g2 => ?_
  have hI1 := tI.set (i := j) (e := dI 0 n (upd g i.toNatClampNeg v)) hI (TK_d h1) g1 g2 TK_dyn rfl rfl rfl
  exact t_tight hI1 (kk _ _ _ hI1 hk1)
theorem any_exact {ci q : Nat} {fs : List Value} {r : vw_C} (C : tCx w A p s m args meth c cc nL own ret0) (hI : tI w A B x s.heap H locs) (h : tD x q = some (dO ci fs)) (hc : clz[ci]? = some r) : va_Any r.1 s H q :=
  va_rAny (D := wD w) (cl := clz) (ws := [(q, .inr (ci, fs))]) (q0 := 0) C.2.1 (at_one (hI.at (TK_d h))) rfl hc (fun comp c0 h1 h2 => by cases h1.symm.trans h2; have := (C.2.1.1 ci r hc).2; cases h2.symm.trans this.1; exact va_assign this)
theorem any_cast {ci q : Nat} {fs : List Value} {r : vw_C} {E : String} (C : tCx w A p s m args meth c cc nL own ret0) (hI : tI w A B x s.heap H locs) (h : tD x q = some (dO ci fs)) (hc : clz[ci]? = some r) (hca : (r.1, E) ∈ nC) : va_Any E s H q :=
  va_rAny (D := wD w) (cl := clz) (ws := [(q, .inr (ci, fs))]) (q0 := 0) C.2.1 (at_one (hI.at (TK_d h))) rfl hc (fun comp c0 h1 h2 => vb_asgC (C.2.2.2.2.2.1.2.2.2.1 _ hca) comp c0 h1 h2)
theorem any_ok {code ci q : Nat} {fs : List Value} {E : String} (C : tCx w A p s m args meth c cc nL own ret0) (hI : tI w A B x s.heap H locs) (h : tD x q = some (dO ci fs)) (ho : okst code ci = true) (ht : (tys w)[code]? = some (wc w code, .object E)) : va_Any E s H q := by
  simp only [okst, Bool.or_eq_true, Bool.and_eq_true, beq_iff_eq] at ho
  rcases ho with ((⟨rfl, h4⟩ | ⟨rfl, rfl⟩) | ⟨rfl, rfl⟩) | ⟨rfl, rfl⟩
  · cases ht
    rcases h4 with ((rfl | rfl) | rfl) | rfl
    · exact any_cast (r := (RX6, TX6, 1)) C hI h rfl (by simp [nC, RX6])
    · exact any_cast (r := (RX7, TX7, 1)) C hI h rfl (by simp [nC, RX7])
    · exact any_cast (r := (RX8, TX8, 3)) C hI h rfl (by simp [nC, RX8])
    · exact any_cast (r := (RX9, TX9, 1)) C hI h rfl (by simp [nC, RX9])
  · cases ht; exact any_exact (r := (RX12, TX12, 5)) C hI h rfl
  · cases ht; exact any_exact (r := (RX10, TX10, 3)) C hI h rfl
  · cases ht; exact any_exact (r := (RX11, TX11, 2)) C hI h rfl
theorem t_dastR {β : Type} {q v code : Nat} {i : Int32} {E : String} {f : TS → Option β} {r : β} (C : tCx w A p s m args meth c cc nL own ret0) (hI : tI w A B x s.heap H locs) (hf : (dRs x q code i v).bind f = some r) (ht : (tys w)[code]? = some (wc w code, .object E)) (hdg : decode cc pc = .ok (.aastore, 1))
    (kk : ∀ x1 H locs, tI w A B x1 s.heap H locs → f x1 = some r → W p l e R s m args below meth c H locs (tZ x1 - s.heap.size) (tY x1 - SL s.heap) Q (F0 m (pc + 1) ls rest)) : W p l e R s m args below meth c H locs cells slots Q (F0 m pc ls (.ref v :: .int i :: .ref q :: rest)) := by
  obtain ⟨x1, hx1, hk1⟩ := b1_some hf
  obtain ⟨n, g, ci, fs, h1, h2, h3, h4, rfl⟩ := dRs_some hx1
  refine x_rast (D := wD w) (E := E) C.1.1 C.1.2.1 (C.2.1.2 code _ ht).2 (hI.at (TK_d h1)) (any_ok C hI h2 h3 ht) h4 hdg fun H1 j g1 g2 => ?_
  have hI1 := tI.set (i := j) (e := dR code n (va_up g i.toNatClampNeg (some v))) hI (TK_d h1) g1 g2 TK_dyn rfl rfl rfl
  exact t_tight hI1 (kk _ _ _ hI1 hk1)
/-! what is made -/
theorem t_new {β : Type} {fr lo : Nat} {C0 : String} {T : u_T} {N ci index : Nat} {fs : List Value} {f : Nat → TS → Option β} {r : β} (C : tCx w A p s m args meth c cc nL own ret0) (hI : tI w A B x s.heap H locs) (hf : b2 (alc B x N (dO ci fs)) f = some r) (hc : clz[ci]? = some (C0, T, N)) (hin : ∀ w ∈ u_ws C0 T N, w ∈ lw_all) (ty0 : Nat → FieldType) (hty : ∀ k, k < N → parseFieldDescriptor (T k).2.2.1 = some (ty0 k)) (hcl : Cond.classLink own index C0 ∈ lw_all) (hinst : Cond.instantiable C0 N ∈ lw_all) (hini : Cond.initialized C0 ∈ lw_all) (hfs : ∀ j, j < N → defaultValue (ty0 j) = vp_V fs j) (hdg : decode cc pc = .ok (.new index, 3))
    (kk : ∀ q x1 H locs, tI w A B x1 s.heap H locs → f q x1 = some r → W p l e (tRm B fr lo s.heap.size (SL s.heap)) s m args below meth c H locs (tZ x1 - s.heap.size) (tY x1 - SL s.heap) Q (F0 m (pc + 3) ls (.ref q :: rest))) : W p l e (tRm B fr lo s.heap.size (SL s.heap)) s m args below meth c H locs (tZ x - s.heap.size) (tY x - SL s.heap) Q (F0 m pc ls rest) := by
  obtain ⟨q, x1, hx1, hk1⟩ := b2_some hf
  obtain ⟨hfit, rfl, rfl⟩ := alc_some hx1
  have h3 := hI.2.2.1.1
  have h4 := hI.2.2.2.1
  have hy := hI.2.2.2.2.2.2.1.2
  refine x_new (D := wD w) (tys := tys w) C.1.1 C.1.2.1 C.1.2.2.2.2.1 hin ty0 hty C.1.2.2.2.1 hcl hinst hini C.2.1 hc hfs (show _ ≤ B.1 - _ by omega) (show _ ≤ B.2 - _ by omega) hdg fun H1 g1 g2 => ?_
  have hI1 := tI.new (e := dO ci fs) hI g1 g2 hfit
  rw [h4]
  exact t_tight hI1 (kk _ _ _ _ hI1 hk1)
theorem t_newI {β : Type} {fr lo : Nat} {atype : ArrayType} {code : Nat} {ty : FieldType} {n : Int32} {N' : Nat} {f : Nat → TS → Option β} {r : β} (C : tCx w A p s m args meth c cc nL own ret0) (hI : tI w A B x s.heap H locs) (hf : b2 (alc B x N' (dI code N' (fun _ => 0))) f = some r) (ht : (tys w)[code]? = some (wc w code, ty)) (hcc : code = 0 ∨ code = 1) (harr : Cond.arrayClass (newarray.typeOf atype) ∈ lw_all) (hty : newarray.typeOf atype = ty) (hn : ¬ n < 0) (hN : n.toNatClampNeg = N') (hbytes : N' * componentBytes ty ≤ 536870912) (hdg : decode cc pc = .ok (.newarray atype, 2))
    (kk : ∀ q x1 H locs, tI w A B x1 s.heap H locs → f q x1 = some r → W p l e (tRm B fr lo s.heap.size (SL s.heap)) s m args below meth c H locs (tZ x1 - s.heap.size) (tY x1 - SL s.heap) Q (F0 m (pc + 2) ls (.ref q :: rest))) : W p l e (tRm B fr lo s.heap.size (SL s.heap)) s m args below meth c H locs (tZ x - s.heap.size) (tY x - SL s.heap) Q (F0 m pc ls (.int n :: rest)) := by
  obtain ⟨q, x1, hx1, hk1⟩ := b2_some hf
  obtain ⟨hfit, rfl, rfl⟩ := alc_some hx1
  have h3 := hI.2.2.1.1
  have h4 := hI.2.2.2.1
  have hy := hI.2.2.2.2.2.2.1.2
  have hra := (C.2.1.2 code _ ht).2
  have hcl : s.vm.findClass ("[" ++ ty.toString) = some (wc w code) ∧ defaultValue ty = .int 0 := by
    rcases hcc with rfl | rfl <;> cases ht <;> exact ⟨hra, rfl⟩
  refine x_newI (D := wD w) C.1.1 C.1.2.1 (C.1.2.2.2.2.1 _ harr) hty hcl.2 hcl.1 hn hN hbytes (show _ ≤ B.1 - _ by omega) (show _ ≤ B.2 - _ by omega) hdg fun H1 g1 g2 => ?_
  have hI1 := tI.new (e := dI code N' (fun _ => 0)) hI g1 g2 hfit
  rw [h4]
  exact t_tight hI1 (kk _ _ _ _ hI1 hk1)
theorem t_newR {β : Type} {fr lo : Nat} {code index : Nat} {E : String} {n : Int32} {f : Nat → TS → Option β} {r : β} (C : tCx w A p s m args meth c cc nL own ret0) (hI : tI w A B x s.heap H locs) (hf : (if n < 0 ∨ 536870912 < n.toNatClampNeg * 4 then none else b2 (alc B x n.toNatClampNeg (dR code n.toNatClampNeg (fun _ => none))) f) = some r) (ht : (tys w)[code]? = some (wc w code, .object E)) (hao : E ∈ nA) (hclink : Cond.classLink own index E ∈ lw_all) (hdg : decode cc pc = .ok (.anewarray index, 3))
    (kk : ∀ q x1 H locs, tI w A B x1 s.heap H locs → f q x1 = some r → W p l e (tRm B fr lo s.heap.size (SL s.heap)) s m args below meth c H locs (tZ x1 - s.heap.size) (tY x1 - SL s.heap) Q (F0 m (pc + 3) ls (.ref q :: rest))) : W p l e (tRm B fr lo s.heap.size (SL s.heap)) s m args below meth c H locs (tZ x - s.heap.size) (tY x - SL s.heap) Q (F0 m pc ls (.int n :: rest)) := by
  by_cases hneg : n < 0 ∨ 536870912 < n.toNatClampNeg * 4
  · rw [if_pos hneg] at hf; cases hf
  rw [if_neg hneg] at hf
  obtain ⟨q, x1, hx1, hk1⟩ := b2_some hf
  obtain ⟨hfit, rfl, rfl⟩ := alc_some hx1
  have h3 := hI.2.2.1.1
  have h4 := hI.2.2.2.1
  have hy := hI.2.2.2.2.2.2.1.2
  obtain ⟨-, -, -, -, -, hra⟩ := (C.2.1.2 code _ ht).2
  refine x_newR (D := wD w) C.1.1 C.1.2.1 C.1.2.2.2.1 (C.1.2.2.2.2.1 _ hclink) (C.2.2.2.2.2.1.2.2.2.2 _ hao) hra (fun q => hneg (Or.inl q)) rfl (by omega) (show _ ≤ B.1 - _ by omega) (show _ ≤ B.2 - _ by omega) hdg fun H1 g1 g2 => ?_
  have hI1 := tI.new (e := dR code n.toNatClampNeg (fun _ => none)) hI g1 g2 hfit
  rw [h4]
  exact t_tight hI1 (kk _ _ _ _ hI1 hk1)
/-! tokens -/
theorem t_tok {β : Type} {index : Nat} {f : Nat → Option β} {r : β} (C : tCx w A p s m args meth c cc nL own ret0) (hI : tI w A B x s.heap H locs) (hf : (tok (tW x 9)).bind f = some r) (hlink : Cond.fieldLink own index RX0 (TX0 9).2.1 (TX0 9).2.2.1 ∈ lw_all) (hdg : decode cc pc = .ok (.getfield index, 3))
    (kk : ∀ v, v < 5 → f v = some r → W p l e R s m args below meth c H locs cells slots Q (F0 m (pc + 3) ls (.ref (wt w v) :: rest))) : W p l e R s m args below meth c H locs cells slots Q (F0 m pc ls (.ref (wa w 37) :: rest)) := by
  obtain ⟨v, hv, hk1⟩ := b1_some hf
  obtain ⟨hlt, rfl⟩ := tok_some hv
  refine t_get (k := 9) C hI (by decide) hlink rfl (v := .ref (wt w (tW x 9))) ?_ hdg (kk _ hlt hk1)
  show some (tkv w (tW x 9)) = _
  unfold tkv
  rw [if_pos hlt]
theorem t_putTok {index i : Nat} (C : tCx w A p s m args meth c cc nL own ret0) (hI : tI w A B x s.heap H locs) (hi : i < 5) (hlink : Cond.fieldLink own index RX0 (TX0 9).2.1 (TX0 9).2.2.1 ∈ lw_all) (hdg : decode cc pc = .ok (.putfield index, 3))
    (kk : ∀ H locs, tI w A B (sTW x 9 i) s.heap H locs → W p l e R s m args below meth c H locs (tZ (sTW x 9 i) - s.heap.size) (tY (sTW x 9 i) - SL s.heap) Q (F0 m (pc + 3) ls rest)) : W p l e R s m args below meth c H locs cells slots Q (F0 m pc ls (.ref (wt w i) :: .ref (wa w 37) :: rest)) := by
  refine t_put (k := 9) (ty := .object "TwelveChain$Token") (x1 := sTW x 9 i) C hI (by decide) hlink rfl rfl (by decide +kernel) rfl rfl ?_ rfl rfl rfl rfl rfl rfl rfl hdg kk
  have : tkv w i = .ref (wt w i) := by unfold tkv; rw [if_pos hi]
  rw [← this]
  rfl
theorem t_gtok {i index : Nat} {nm : String} (C : tCx w A p s m args meth c cc nL own ret0) (hI : tI w A B x s.heap H locs) (hi : i < 5) (hnm : tkN.getD i "" = nm) (hlink : Cond.fieldLink own index "TwelveChain$Token" nm "LTwelveChain$Token;" ∈ lw_all) (hdg : decode cc pc = .ok (.getstatic index, 3))
    (kk : W p l e R s m args below meth c H locs cells slots Q (F0 m (pc + 3) ls (.ref (wt w i) :: rest))) : W p l e R s m args below meth c H locs cells slots Q (F0 m pc ls rest) := by
  subst hnm
  exact va_gets C.1.1 C.1.2.1 (C.2.2.2.2.1.1 i hi).1 hI.2.2.1 C.1.2.2.2.1 (C.1.2.2.2.2.1 _ hlink) (fun _ h => h) hdg kk
theorem tok_inj {i j : Nat} (C : tCx w A p s m args meth c cc nL own ret0) (hi : i < 5) (hj : j < 5) : (some (wt w i) = some (wt w j)) ↔ i = j :=
  ⟨fun h => C.2.2.2.2.1.2 i j hi hj (Option.some.inj h), fun h => by rw [h]⟩
theorem b_acne {β : Type} {i j : Nat} {off : Int} {tgt : Nat} {ii : Decidable (i = j)} {a b r : β} (C : tCx w A p s m args meth c cc nL own ret0) (hi : i < 5) (hj : j < 5) (hf : @ite β (i = j) ii b a = r) (hdg : decode cc pc = .ok (.if_acmp .ne off, 3)) (ht : (pc : Int) + off = (tgt : Int)) (kt : a = r → W p l e R s m args below meth c H locs cells slots Q (F0 m tgt ls rest)) (kf : b = r → W p l e R s m args below meth c H locs cells slots Q (F0 m (pc + 3) ls rest)) : W p l e R s m args below meth c H locs cells slots Q (F0 m pc ls (.ref (wt w j) :: .ref (wt w i) :: rest)) :=
  lv_acmp_ne (rx := some (wt w i)) (ry := some (wt w j)) C.1.1 C.1.2.1 hdg ht (fun h => kt (it_n (fun q => h ((tok_inj C hi hj).mpr q)) hf)) (fun h => kf (it_p ((tok_inj C hi hj).mp h) hf))
theorem b_aceq {β : Type} {i j : Nat} {off : Int} {tgt : Nat} {ii : Decidable (i = j)} {a b r : β} (C : tCx w A p s m args meth c cc nL own ret0) (hi : i < 5) (hj : j < 5) (hf : @ite β (i = j) ii a b = r) (hdg : decode cc pc = .ok (.if_acmp .eq off, 3)) (ht : (pc : Int) + off = (tgt : Int)) (kt : a = r → W p l e R s m args below meth c H locs cells slots Q (F0 m tgt ls rest)) (kf : b = r → W p l e R s m args below meth c H locs cells slots Q (F0 m (pc + 3) ls rest)) : W p l e R s m args below meth c H locs cells slots Q (F0 m pc ls (.ref (wt w j) :: .ref (wt w i) :: rest)) :=
  lv_acmp_eq (rx := some (wt w i)) (ry := some (wt w j)) C.1.1 C.1.2.1 hdg ht (fun h => kt (it_p ((tok_inj C hi hj).mp h) hf)) (fun h => kf (it_n (fun q => h ((tok_inj C hi hj).mpr q)) hf))
end TR2
