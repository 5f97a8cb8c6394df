/-! BASE FOR THE SYSTEM: cells one by one, the heap's slots counted, tight counters -/
set_option maxRecDepth 100000
theorem SL_push (H : Heap) (c : Cell) : SL (H.push c) = SL H + c.slots.size := by
  unfold SL
  simp [Array.toList_push]
theorem SL_new {H H1 : Heap} {c : Cell} (hz : H1.size = H.size + 1) (h1 : H1[H.size]? = some c) (o1 : ∀ q : Nat, q < H.size → H1[q]? = H[q]?) : SL H1 = SL H + c.slots.size := by
  have : H1 = H.push c := by
    apply Array.ext_getElem?
    intro i
    by_cases h : i < H.size
    · rw [o1 i h, Array.getElem?_push, if_neg (Nat.ne_of_lt h)]
    · by_cases h2 : i = H.size
      · subst h2; rw [h1, Array.getElem?_push, if_pos rfl]
      · rw [Array.getElem?_eq_none (by omega), Array.getElem?_eq_none (by rw [Array.size_push]; omega)]
  rw [this, SL_push]
theorem list_split {l l2 : List Cell} (hl : l.length ≤ l2.length) (h : ∀ (i : Nat) (c : Cell), l[i]? = some c → ∃ c2, l2[i]? = some c2 ∧ c2.slots.size = c.slots.size) : (l2.map (fun c => c.slots.size)).sum = (l.map (fun c => c.slots.size)).sum + ((l2.drop l.length).map (fun c => c.slots.size)).sum := by
  have e : l2.map (fun c => c.slots.size) = l.map (fun c => c.slots.size) ++ (l2.drop l.length).map (fun c => c.slots.size) := by
    apply List.ext_getElem?
    intro i
    by_cases hi : i < l.length
    · rw [List.getElem?_append_left (by simpa using hi)]
      have h1 : l[i]? = some l[i] := List.getElem?_eq_getElem hi
      obtain ⟨c2, h2, h3⟩ := h i _ h1
      simp [h1, h2, h3]
    · rw [List.getElem?_append_right (by simpa using hi)]
      simp only [List.getElem?_map, List.length_map, List.getElem?_drop]
      rw [show l.length + (i - l.length) = i by omega]
  rw [e, List.sum_append]
section TB
variable {p : Program} {l : Launch} {e : Env} {R : Room} {s : State} {m : MethodId} {args : Array Value} {below : List Frame} {meth : Method} {c : Code} {H : Heap} {locs : List Loc} {cells slots : Nat} {Q : State → Prop}
variable {cc : ByteArray} {pc nL : Nat} {ls : Array Slot} {rest : List Value} {D : va_G} {A : Nat → Prop} {a : Nat} {tys : List (ClassId × FieldType)} {H0 : Heap}
/-- the counters may be as small as the heap is -/
theorem W.tight {g : JFrame} {k n : Nat} (h1 : H.size ≤ s.heap.size + k) (h2 : SL H ≤ SL s.heap + n) (kk : W p l e R s m args below meth c H locs k n Q g) : W p l e R s m args below meth c H locs cells slots Q g := by
  intro T hT X
  refine kk T hT { X with same := ?_ }
  obtain ⟨q1, q2, q3, q4, q5, q6⟩ := X.same
  have hh : (T.setVm s.vm).heap = H := hT
  refine ⟨q1, q2, by rw [hh]; exact h1, q4, ?_, q6⟩
  have := list_split (l := s.heap.toList) (l2 := (T.setVm s.vm).heap.toList) (by simpa using q2) (fun i cl hi => by
    obtain ⟨c', x1, -, x3, -⟩ := q6 i cl (by simpa using hi)
    exact ⟨c', by simpa using x1, x3⟩)
  unfold SL at h2
  rw [hh] at this ⊢
  rw [this] at h2
  simp only [Array.length_toList] at h2
  omega
/-- one cell of the world -/
theorem at_one {q : Nat × va_E} (h : va_at D clz q H) : va_P D clz [q] H := by
  intro k q1 hk
  cases k with
  | zero => cases hk; exact h
  | succ k => cases hk
def But (H H1 : Heap) (a : Nat) : Prop := H1.size = H.size ∧ (∀ q : Nat, q ≠ a → H1[q]? = H[q]?) ∧ SL H1 = SL H
theorem x_put {own ref C : String} {T : u_T} {N ci index k : Nat} {fs : List Value} {ty : FieldType} {v : Value} (hexec : p.tables.exec = Jvm.exec) (hb : c.code = cc) (hts : ∀ w ∈ lw_all, w.before args s = true) (hin : ∀ w ∈ u_ws C T N, w ∈ lw_all) (ty0 : Nat → FieldType) (hty : ∀ k, k < N → parseFieldDescriptor (T k).2.2.1 = some (ty0 k)) (hnm : ∀ a, a < N → ∀ b, b < N → a ≠ b → (T a).2.1 ≠ (T b).2.1) (hown : s.vm.findClass own = some m.cls) (hK : va_K D clz tys s)
    (hat : va_at D clz (a, .inr (ci, fs)) H) (hc : clz[ci]? = some (C, T, N)) (hk : k < N) (hlink : (Cond.fieldLink own index ref (T k).2.1 (T k).2.2.1).before args s = true) (hsame : ∀ x, s.fieldFound? (T k).1 (T k).2.1 (T k).2.2.1 = some x → s.fieldFound? ref (T k).2.1 (T k).2.2.1 = some x) (hfin : (T k).2.2.2 = false) (hd : parseFieldDescriptor (T k).2.2.1 = some ty) (hn : narrow ty v = v) (hfit : fits ty v = true) (hl : k < fs.length) (hdg : decode cc pc = .ok (.putfield index, 3))
    (kk : ∀ (H1 : Heap) (i : Nat), va_at D clz (a, .inr (ci, fs.set k v)) H1 → But H H1 a → W p l e R s m args below meth c H1 (locs ++ [⟨a, i⟩]) cells slots Q (F0 m (pc + 3) ls rest)) : W p l e R s m args below meth c H locs cells slots Q (F0 m pc ls (v :: .ref a :: rest)) := by
  have hap := va_apart (own := own) hts hin ty0 hty hnm hK hc
  obtain ⟨r, h1, cell, q1, q2, q3, q4⟩ := hat
  have hr : r = (C, T, N) := Option.some.inj (h1.symm.trans hc)
  subst hr
  obtain ⟨hS, hfc, kC, hkC, hkind⟩ := hK.1 ci _ hc
  obtain ⟨cf, kf, fi, f, hi, hsl⟩ := hS k hk
  have hlay := hts _ (hin _ (u_in_lay hk))
  unfold u_lay at hlay
  rw [if_neg (by rw [hfin]; decide)] at hlay
  have hst := (u_facts hfc hkC (u_lays hts hin hk) hi).1
  have h6 := u_store hfc hkC hkind hlay hi hd hn hfit
  refine W.putK hexec hb (f := f) ⟨hown, hlink, ⟨_, _, _, hsame _ hi⟩, hst⟩ (by rw [q2]; exact h6) q1 q3 (by rw [hsl]; exact k2_hasslot (q4 k hk)) rfl rfl hdg fun H' e1 e2 e3 => ?_
  have hSL := SL_set q1 e1 (k2_slotsz _ _ _) e2 e3
  rw [hsl] at e1 ⊢
  exact kk H' _ ⟨_, hc, t_OB.to (V := updV (vp_V fs) k v) ⟨_, e1, q2, q3, t_set q4 hap hk v⟩ (fun j _ => vp_updV_set hl v j)⟩ ⟨e2, e3, hSL⟩
theorem x_putF {own ref C : String} {T : u_T} {N ci index k : Nat} {fs : List Value} {ty : FieldType} {v : Value} (hexec : p.tables.exec = Jvm.exec) (hb : c.code = cc) (hts : ∀ w ∈ lw_all, w.before args s = true) (hin : ∀ w ∈ u_ws C T N, w ∈ lw_all) (ty0 : Nat → FieldType) (hty : ∀ k, k < N → parseFieldDescriptor (T k).2.2.1 = some (ty0 k)) (hnm : ∀ a, a < N → ∀ b, b < N → a ≠ b → (T a).2.1 ≠ (T b).2.1) (hown : s.vm.findClass own = some m.cls) (hK : va_K D clz tys s)
    (hat : va_at D clz (a, .inr (ci, fs)) H) (hc : clz[ci]? = some (C, T, N)) (hk : k < N) (hlink : (Cond.fieldLink own index ref (T k).2.1 (T k).2.2.1).before args s = true) (hsame : ∀ x, s.fieldFound? (T k).1 (T k).2.1 (T k).2.2.1 = some x → s.fieldFound? ref (T k).2.1 (T k).2.2.1 = some x) (hfin : (T k).2.2.2 = true) (hin2 : meth.name = "<init>") (hdecl : (T k).1 = own) (hd : parseFieldDescriptor (T k).2.2.1 = some ty) (hn : narrow ty v = v) (hfit : fits ty v = true) (hl : k < fs.length) (hdg : decode cc pc = .ok (.putfield index, 3))
    (kk : ∀ (H1 : Heap) (i : Nat), va_at D clz (a, .inr (ci, fs.set k v)) H1 → But H H1 a → W p l e R s m args below meth c H1 (locs ++ [⟨a, i⟩]) cells slots Q (F0 m (pc + 3) ls rest)) : W p l e R s m args below meth c H locs cells slots Q (F0 m pc ls (v :: .ref a :: rest)) := by
  have hap := va_apart (own := own) hts hin ty0 hty hnm hK hc
  obtain ⟨r, h1, cell, q1, q2, q3, q4⟩ := hat
  have hr : r = (C, T, N) := Option.some.inj (h1.symm.trans hc)
  subst hr
  obtain ⟨hS, hfc, kC, hkC, hkind⟩ := hK.1 ci _ hc
  obtain ⟨cf, kf, fi, f, hi, hsl⟩ := hS k hk
  have hlay := hts _ (hin _ (u_in_lay hk))
  unfold u_lay at hlay
  rw [if_pos hfin] at hlay
  have hst := (u_facts hfc hkC (u_lays hts hin hk) hi).1
  have hcf : m.cls = cf := by
    obtain ⟨_, _, c', _, _, _, -, -, hf', -, -, -, hown2, -⟩ := Cond.laysFinal_spec hlay
    have e1 : c' = cf := by have := hi.symm.trans hf'; simp at this; exact this.1.symm
    rw [hdecl] at hown2
    rw [← e1]; exact Option.some.inj (hown.symm.trans hown2)
  have h6 := u_fits hfc hkC hkind (Or.inr hlay) hi hd hn hfit
  refine W.putFinK hexec hb hown hlink (hsame _ hi) hst hcf hin2 (by rw [q2]; exact h6) q1 q3 (by rw [hsl]; exact k2_hasslot (q4 k hk)) rfl rfl hdg fun H' e1 e2 e3 => ?_
  have hSL := SL_set q1 e1 (k2_slotsz _ _ _) e2 e3
  rw [hsl] at e1 ⊢
  exact kk H' _ ⟨_, hc, t_OB.to (V := updV (vp_V fs) k v) ⟨_, e1, q2, q3, t_set q4 hap hk v⟩ (fun j _ => vp_updV_set hl v j)⟩ ⟨e2, e3, hSL⟩
theorem x_iast {cA : ClassId} {n : Nat} {f : Nat → Int32} {i x : Int32} (hexec : p.tables.exec = Jvm.exec) (hb : c.code = cc) (hA : ArrOfT s cA .int) (hat : va_at D clz (a, .inl (cA, n, .inl f)) H) (hin : vp_in i n) (hdg : decode cc pc = .ok (.iastore, 1))
    (kk : ∀ (H1 : Heap) (j : Nat), va_at D clz (a, .inl (cA, n, .inl (upd f i.toNatClampNeg x))) H1 → But H H1 a → W p l e R s m args below meth c H1 (locs ++ [⟨a, j⟩]) cells slots Q (F0 m (pc + 1) ls rest)) : W p l e R s m args below meth c H locs cells slots Q (F0 m pc ls (.int x :: .int i :: .ref a :: rest)) := by
  refine W.iast hexec hb hat (hA n (fun j => .int (f j))) (fun q => by cases q) (by show ¬ (i < 0 ∨ (arrV _ _ _).slots.size ≤ _); rw [arrV_size]; exact hin) rfl rfl hdg fun H1 e z oq => ?_
  have hSL := SL_set hat e (k2_slotsz _ _ _) z oq
  refine kk H1 _ ?_ ⟨z, oq, hSL⟩
  show H1[a]? = some (vp_cell _ _)
  rw [e]
  show some ((vp_cell cA (n, .inl f)).setSlot _ _) = _
  rw [vp_cell_i, vp_cell_i, arrV_store]
  congr 2
  funext q
  by_cases hq : q = i.toNatClampNeg
  · subst hq
    simp [updV, upd]
  · simp [updV, upd, hq]
theorem x_bast {cA : ClassId} {n : Nat} {f : Nat → Int32} {i x : Int32} (hexec : p.tables.exec = Jvm.exec) (hb : c.code = cc) (hA : ArrOfT s cA .byte) (hat : va_at D clz (a, .inl (cA, n, .inl f)) H) (hin : vp_in i n) (hdg : decode cc pc = .ok (.bastore, 1))
    (kk : ∀ (H1 : Heap) (j : Nat), va_at D clz (a, .inl (cA, n, .inl (upd f i.toNatClampNeg (vp_nar .byte x)))) H1 → But H H1 a → W p l e R s m args below meth c H1 (locs ++ [⟨a, j⟩]) cells slots Q (F0 m (pc + 1) ls rest)) : W p l e R s m args below meth c H locs cells slots Q (F0 m pc ls (.int x :: .int i :: .ref a :: rest)) := by
  refine W.bast hexec hb hat (hA n (fun j => .int (f j))) (fun q => by cases q) (by show ¬ (i < 0 ∨ (arrV _ _ _).slots.size ≤ _); rw [arrV_size]; exact hin) rfl rfl hdg fun H1 e z oq => ?_
  have hSL := SL_set hat e (k2_slotsz _ _ _) z oq
  refine kk H1 _ ?_ ⟨z, oq, hSL⟩
  show H1[a]? = some (vp_cell _ _)
  rw [e]
  show some ((vp_cell cA (n, .inl f)).setSlot _ _) = _
  rw [vp_cell_i, vp_cell_i, arrV_store]
  congr 2
  funext q
  by_cases hq : q = i.toNatClampNeg
  · subst hq
    simp [updV, upd, vp_nar]
    try rfl
  · simp [updV, upd, hq]
theorem x_rast {cA : ClassId} {E : String} {n v : Nat} {f : Nat → Option Nat} {i : Int32} (hexec : p.tables.exec = Jvm.exec) (hb : c.code = cc) (hRA : va_RA s cA (.object E)) (hat : va_at D clz (a, .inl (cA, n, .inr (.inr (.inr (.inr f))))) H) (hr : va_Any E s H v) (hin : vp_in i n) (hdg : decode cc pc = .ok (.aastore, 1))
    (kk : ∀ (H1 : Heap) (j : Nat), va_at D clz (a, .inl (cA, n, .inr (.inr (.inr (.inr (va_up f i.toNatClampNeg (some v))))))) H1 → But H H1 a → W p l e R s m args below meth c H1 (locs ++ [⟨a, j⟩]) cells slots Q (F0 m (pc + 1) ls rest)) : W p l e R s m args below meth c H locs cells slots Q (F0 m pc ls (.ref v :: .int i :: .ref a :: rest)) := by
  have hlt : i.toNatClampNeg < n := Nat.not_le.mp fun q => hin (Or.inr q)
  have h0 : ¬ i < 0 := fun q => hin (Or.inl q)
  obtain ⟨cellV, g1, g3, ⟨kC, hkC⟩, hasg⟩ := hr
  obtain ⟨kA, comp, k1, k2, k3, -⟩ := hRA
  obtain ⟨kE, hkE, -⟩ := Vm.findClass_spec k3
  refine W.aast hexec hb hat (fun q h => by cases h) (fun h => by cases h) k1 k2 rfl hkE ⟨h0, by show _ < (arrV _ _ _).slots.size; rw [arrV_size]; exact hlt⟩ g1 (fun q h => by rw [h] at g3; cases g3) hkC (hasg _ k3) rfl rfl hdg fun H1 e z oq => ?_
  have hSL := SL_set hat e (k2_slotsz _ _ _) z oq
  refine kk H1 _ ?_ ⟨z, oq, hSL⟩
  show H1[a]? = some (vp_cell _ _)
  rw [e]
  show some ((vp_cell cA (n, .inr (.inr (.inr (.inr f))))).setSlot _ _) = _
  rw [vp_cell_q, vp_cell_q, arrV_store]
  congr 2
  funext q
  by_cases hq : q = i.toNatClampNeg
  · subst hq
    simp [updV, va_up, va_rf]
  · simp [updV, va_up, hq]
/-- a new cell at the heap's end -/
def Grew (H H1 : Heap) (k : Nat) : Prop := H1.size = H.size + 1 ∧ (∀ q : Nat, q < H.size → H1[q]? = H[q]?) ∧ SL H1 = SL H + k
theorem x_new {own C : String} {T : u_T} {N ci index : Nat} {fs : List Value} (hexec : p.tables.exec = Jvm.exec) (hb : c.code = cc) (hts : ∀ w ∈ lw_all, w.before args s = true) (hin : ∀ w ∈ u_ws C T N, w ∈ lw_all) (ty : Nat → FieldType) (hty : ∀ k, k < N → parseFieldDescriptor (T k).2.2.1 = some (ty k)) (hown : s.vm.findClass own = some m.cls) (hcl : Cond.classLink own index C ∈ lw_all) (hinst : Cond.instantiable C N ∈ lw_all) (hini : Cond.initialized C ∈ lw_all)
    (hK : va_K D clz tys s) (hc : clz[ci]? = some (C, T, N)) (hfs : ∀ j, j < N → defaultValue (ty j) = vp_V fs j) (hcells : cells + 1 ≤ R.cells) (hslots : slots + N ≤ R.slots) (hdg : decode cc pc = .ok (.new index, 3))
    (kk : ∀ (H1 : Heap), va_at D clz (H.size, .inr (ci, fs)) H1 → Grew H H1 N → W p l e R s m args below meth c H1 locs (cells + 1) (slots + N) Q (F0 m (pc + 3) ls (.ref H.size :: rest))) : W p l e R s m args below meth c H locs cells slots Q (F0 m pc ls rest) := by
  have hKn := hK.1 ci _ hc
  refine W.newc hexec hb hown (hts _ hcl) (hts _ hinst) (hts _ hini) rfl hdg hcells hslots fun cC kC g1 g2 g3 g4 => ?_
  have hcC : cC = D.1 ci := Option.some.inj (g1.symm.trans hKn.2.1)
  subst hcC
  generalize hH1 : H.push ({ cls := D.1 ci, slots := kC.instanceTypes.map defaultValue, vm := .none } : Cell) = H1
  have z1 : H1.size = H.size + 1 := by rw [← hH1, Array.size_push]
  have e1 : H1[H.size]? = some (blank (D.1 ci) kC) := by rw [← hH1, Array.getElem?_push_size]; rfl
  have o1 : ∀ q : Nat, q < H.size → H1[q]? = H[q]? := fun q hq => by rw [← hH1, Array.getElem?_push, if_neg (Nat.ne_of_lt hq)]
  have hSL : SL H1 = SL H + N := by rw [SL_new z1 e1 o1]; simp [blank, g4]
  exact kk H1 ⟨_, hc, (u_born ty hts hin hKn g2 e1 hty).to hfs⟩ ⟨z1, o1, hSL⟩
theorem x_newI {atype : ArrayType} {ty : FieldType} {n : Int32} {N' : Nat} {cA0 : ClassId} (hexec : p.tables.exec = Jvm.exec) (hb : c.code = cc) (harr : (Cond.arrayClass (newarray.typeOf atype)).before args s = true) (hty : newarray.typeOf atype = ty) (hd : defaultValue ty = .int 0) (hcl : s.vm.findClass ("[" ++ ty.toString) = some cA0) (hn : ¬ n < 0) (hN : n.toNatClampNeg = N') (hbytes : N' * componentBytes ty ≤ 536870912) (hcells : cells + 1 ≤ R.cells) (hslots : slots + N' ≤ R.slots) (hdg : decode cc pc = .ok (.newarray atype, 2))
    (kk : ∀ (H1 : Heap), va_at D clz (H.size, .inl (cA0, N', .inl (fun _ => 0))) H1 → Grew H H1 N' → W p l e R s m args below meth c H1 locs (cells + 1) (slots + N') Q (F0 m (pc + 2) ls (.ref H.size :: rest))) : W p l e R s m args below meth c H locs cells slots Q (F0 m pc ls (.int n :: rest)) := by
  subst hty
  refine va_newaK hexec hb harr rfl hdg rfl hn hN hbytes hcells hslots rfl fun H1 cA e1 z1 o1 hAr hNm => ?_
  have hcA : cA = cA0 := Option.some.inj (hNm.symm.trans hcl)
  subst hcA
  refine kk H1 ?_ ⟨z1, o1, by rw [SL_new z1 e1 o1, arrV_size]⟩
  show H1[H.size]? = some (vp_cell _ _)
  rw [vp_cell_i, e1, hd]
theorem x_newR {own C : String} {index : Nat} {n : Int32} {N' : Nat} {cA0 : ClassId} (hexec : p.tables.exec = Jvm.exec) (hb : c.code = cc) (hown : s.vm.findClass own = some m.cls) (hclink : (Cond.classLink own index C).before args s = true) (hover : va_AO C s) (hcl : s.vm.findClass ("[" ++ (FieldType.object C).toString) = some cA0) (hn : ¬ n < 0) (hN : n.toNatClampNeg = N') (hbytes : N' * 4 ≤ 536870912) (hcells : cells + 1 ≤ R.cells) (hslots : slots + N' ≤ R.slots) (hdg : decode cc pc = .ok (.anewarray index, 3))
    (kk : ∀ (H1 : Heap), va_at D clz (H.size, .inl (cA0, N', .inr (.inr (.inr (.inr (fun _ => none)))))) H1 → Grew H H1 N' → W p l e R s m args below meth c H1 locs (cells + 1) (slots + N') Q (F0 m (pc + 3) ls (.ref H.size :: rest))) : W p l e R s m args below meth c H locs cells slots Q (F0 m pc ls (.int n :: rest)) := by
  subst hN
  refine W.anew hexec hb hown hclink (va_AO.use hover) rfl hdg rfl hn hbytes hcells hslots fun cA kA comp f1 f2 f3 f4 => ?_
  have hcA : cA = cA0 := Option.some.inj (f1.symm.trans hcl)
  subst hcA
  generalize hH1 : H.push ({ cls := cA, slots := Array.replicate n.toNatClampNeg .null, vm := .none } : Cell) = H1
  have z1 : H1.size = H.size + 1 := by rw [← hH1, Array.size_push]
  have e1 : H1[H.size]? = some (arrV cA n.toNatClampNeg (fun _ => .null)) := by rw [← hH1, Array.getElem?_push_size, ← arrV_new]
  have o1 : ∀ q : Nat, q < H.size → H1[q]? = H[q]? := fun q hq => by rw [← hH1, Array.getElem?_push, if_neg (Nat.ne_of_lt hq)]
  refine kk H1 ?_ ⟨z1, o1, by rw [SL_new z1 e1 o1, arrV_size]⟩
  show H1[H.size]? = some (vp_cell _ _)
  rw [e1]
  rfl
end TB
