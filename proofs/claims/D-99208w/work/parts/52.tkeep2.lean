/-! keepsAhead, and its rows -/
set_option maxRecDepth 100000
def hget (x : TS) (i : Int32) : Option (Option Nat) := if i < 0 ∨ 6 ≤ i.toNatClampNeg then none else some (tH x i.toNatClampNeg)
def hput (x : TS) (i : Int32) (j : Nat) : Option TS := if i < 0 ∨ 6 ≤ i.toNatClampNeg then none else some (sTH x (va_up (tH x) i.toNatClampNeg (some j)))
def hsl (x : TS) : TS := sTH x (fun k => if k < 5 then tH x (k + 1) else tH x k)
theorem TK_h {w : tO} {x : TS} : TK w x 27 = some (wa w 26, dR 8 6 (fun i => (tH x i).map (fun q => wG w q 5))) := rfl
theorem TK_hU {w : tO} {x : TS} {f : Nat → Option Nat} : kU (TK w x) 27 (wa w 26, dR 8 6 (fun i => (f i).map (fun q => wG w q 5))) = TK w (sTH x f) := by
  funext k
  unfold kU
  by_cases h : k = 27
  · subst h; rw [if_pos rfl]; rfl
  · rw [if_neg h]
    unfold TK
    by_cases c1 : k < 100
    · rw [if_pos c1, if_pos c1]
      unfold TKf
      rw [if_neg h, if_neg h]
      rfl
    · rw [if_neg c1, if_neg c1]; rfl
section TKR
variable {p : Program} {l : Launch} {e : Env} {R : Room} {s : State} {m : MethodId} {args : Array Value} {below : List Frame} {meth : Method} {c : Code} {H : Heap} {locs : List Loc} {Q : State → Prop}
variable {cc : ByteArray} {pc nL cells slots fr lo : Nat} {ls : Array Slot} {rest : List Value} {w : tO} {A : Nat → Prop} {B : Nat × Nat} {x : TS} {ret0 : Option FieldType} {own : String}
theorem tI.setH {f : Nat → Option Nat} {H0 H1 : Heap} {L : List Loc} (hI : tI w A B x H0 H locs) (he : tAt w (wa w 26, dR 8 6 (fun i => (f i).map (fun q => wG w q 5))) H1) (hb : But H H1 (wa w 26)) (hL : ∀ q ∈ L, q.base = wa w 26) (hf : ∀ i j, f i = some j → j < wn w) : tI w A B (sTH x f) H0 H1 (locs ++ L) := by
  obtain ⟨h1, h2, h3, h4, h5, h6, h7, h8, h9⟩ := hI
  obtain ⟨b1, b2, b3⟩ := hb
  have hA := h2.2 27 _ TK_h
  refine ⟨TK_hU ▸ h1.set h2 TK_h he b2, TK_hU ▸ h2.set TK_h, ⟨by rw [b1]; exact h3.1, fun q q1 q2 => ?_, fun q hq => ?_⟩, by rw [b1]; exact h4, by rw [b3]; exact h5, h6, h7, h8, ⟨h9.1.1, hf⟩, h9.2⟩
  · rw [b2 q (fun e => q2 (by rw [e]; exact hA))]; exact h3.2.1 q q1 q2
  · rcases List.mem_append.mp hq with h | h
    · exact h3.2.2 q h
    · rw [hL q h]; exact hA
theorem t_hald {β : Type} {i : Int32} {f : Option Nat → Option β} {r : β} (C : tCx w A p s m args meth c cc nL own ret0) (hI : tI w A B x s.heap H locs) (hf : (hget x i).bind f = some r) (hdg : decode cc pc = .ok (.aaload, 1))
    (kk : ∀ o, (∀ j, o = some j → j < wn w) → f o = some r → W p l e R s m args below meth c H locs cells slots Q (F0 m (pc + 1) ls (va_rf (o.map (fun q => wG w q 5)) :: rest))) : W p l e R s m args below meth c H locs cells slots Q (F0 m pc ls (.int i :: .ref (wa w 26) :: rest)) := by
  obtain ⟨o, ho, hk⟩ := b1_some hf
  unfold hget at ho
  by_cases hc : i < 0 ∨ 6 ≤ i.toNatClampNeg
  · rw [if_pos hc] at ho; cases ho
  · rw [if_neg hc] at ho
    cases ho
    exact va_aldq (ws := [(wa w 26, .inl (wc w 8, 6, .inr (.inr (.inr (.inr (fun i => (tH x i).map (fun q => wG w q 5)))))))]) C.1.1 C.1.2.1 C.2.1 (at_one (hI.at TK_h)) 0 8 rfl rfl hc hdg (kk _ (fun j hj => hI.2.2.2.2.2.2.2.2.1.2 _ j hj) hk)
theorem t_hast {β : Type} {i : Int32} {j : Nat} {f : TS → Option β} {r : β} (C : tCx w A p s m args meth c cc nL own ret0) (hI : tI w A B x s.heap H locs) (hj : j < wn w) (hf : (hput x i j).bind f = some r) (hdg : decode cc pc = .ok (.aastore, 1))
    (kk : ∀ x1 H locs, tI w A B x1 s.heap H locs → f x1 = some r → W p l e R s m args below meth c H locs (tZ x1 - s.heap.size) (tY x1 - SL s.heap) Q (F0 m (pc + 1) ls rest)) : W p l e R s m args below meth c H locs cells slots Q (F0 m pc ls (.ref (wG w j 5) :: .int i :: .ref (wa w 26) :: rest)) := by
  obtain ⟨x1, hx1, hk⟩ := b1_some hf
  unfold hput at hx1
  by_cases hc : i < 0 ∨ 6 ≤ i.toNatClampNeg
  · rw [if_pos hc] at hx1; cases hx1
  · rw [if_neg hc] at hx1
    cases hx1
    have ha : va_Any "TwelveChain$Chain" s H (wG w j 5) := va_rAny (D := wD w) (cl := clz) (ws := [(wG w j 5, .inr (1, CF w x j))]) (q0 := 0) (r := (RX2, TX2, 14)) C.2.1 (at_one (tc_at hI hj)) rfl rfl (fun comp c0 h1 h2 => by cases h1.symm.trans h2; have := (C.2.1.1 1 _ rfl).2; cases h2.symm.trans this.1; exact va_assign this)
    refine x_rast (D := wD w) (E := "TwelveChain$Chain") C.1.1 C.1.2.1 (C.2.1.2 8 _ rfl).2 (hI.at TK_h) ha hc hdg fun H1 jj g1 g2 => ?_
    have e : va_up (fun i => (tH x i).map (fun q => wG w q 5)) i.toNatClampNeg (some (wG w j 5)) = fun k => (va_up (tH x) i.toNatClampNeg (some j) k).map (fun q => wG w q 5) := by
      funext k
      unfold va_up
      by_cases h : k = i.toNatClampNeg
      · rw [if_pos h, if_pos h]; rfl
      · rw [if_neg h, if_neg h]
    rw [e] at g1
    have hI1 := tI.setH (f := va_up (tH x) i.toNatClampNeg (some j)) (L := [⟨wa w 26, jj⟩]) hI g1 g2 (fun q hq => by rw [List.mem_singleton.mp hq]) (fun a b h => by
      unfold va_up at h
      by_cases h9 : a = i.toNatClampNeg
      · rw [if_pos h9] at h; cases h; exact hj
      · rw [if_neg h9] at h; exact hI.2.2.2.2.2.2.2.2.1.2 _ _ h)
    exact t_tight hI1 (kk _ _ _ hI1 hk)
/-- System.arraycopy(ahead, 1, ahead, 0, 5) -/
theorem t_hcopy {index : Nat} (C : tCx w A p s m args meth c cc nL own ret0) (hI : tI w A B x s.heap H locs) (hsize : ls.size = nL) (hlink : Cond.methodLink own index arraycopyName ∈ lw_all) (hnat : Cond.native arraycopyName ∈ lw_all) (hstat : Cond.static arraycopyName ∈ lw_all) (hini : Cond.initialized "java/lang/System" ∈ lw_all)
    (hframes : 1 ≤ R.frames) (hlocals : (rest.map fun v => v.category).sum + (nativeFrameWords "java/lang/System" "arraycopy" 5 + 11) ≤ R.locals) (hdg : decode cc pc = .ok (.invokestatic index, 3))
    (kk : ∀ H locs, tI w A B (hsl x) s.heap H locs → W p l e R s m args below meth c H locs (tZ (hsl x) - s.heap.size) (tY (hsl x) - SL s.heap) Q (F0 m (pc + 3) ls rest)) : W p l e R s m args below meth c H locs cells slots Q (F0 m pc ls (.int 5 :: .int 0 :: .ref (wa w 26) :: .int 1 :: .ref (wa w 26) :: rest)) := by
  have hts := C.1.2.2.2.2.1
  generalize hfe : (fun i => (tH x i).map (fun q => wG w q 5)) = f
  have hc0 : H[wa w 26]? = some (vp_cell (wc w 8) (6, .inr (.inr (.inr (.inr f))))) := by
    rw [← hfe]; exact hI.at TK_h
  have hRA := C.2.1.2 8 _ rfl
  intro T hT X
  obtain ⟨-, k0, hk0, cm0, hkk0⟩ := hRA.1 6 (fun j => va_rf (f j))
  obtain ⟨vm', X', step⟩ := X.arraycopy C.1.1 C.1.2.2.2.1 (hts _ hlink) (hts _ hnat) (hts _ hstat) (hts _ hini) (src := wa w 26) (dst := wa w 26) (cs := vp_cell (wc w 8) (6, .inr (.inr (.inr (.inr f))))) (cd := vp_cell (wc w 8) (6, .inr (.inr (.inr (.inr f))))) (srcPos := 1) (destPos := 0) (n := 5) (by rw [hT]; exact hc0) (by rw [hT]; exact hc0)
    (fun _ h => by cases h) (fun _ h => by cases h) (fun h => by cases h) (fun h => by cases h) hk0 hk0 hkk0 hkk0 rfl (by decide) (by decide) (by decide)
    (by show ¬ _ > ((arrV (wc w 8) 6 (fun j => va_rf (f j))).slots.size : Int); rw [arrV_size]; decide)
    (by show ¬ _ > ((arrV (wc w 8) 6 (fun j => va_rf (f j))).slots.size : Int); rw [arrV_size]; decide)
    (fun vm₁ hal i hi => by
      have hi5 : i < 5 := hi
      have e : (vp_cell (wc w 8) (6, .inr (.inr (.inr (.inr f))))).slots.getD ((1 : Int32).toNatClampNeg + i) .null = va_rf (f ((1 : Int32).toNatClampNeg + i)) := by
        show (arrV (wc w 8) 6 (fun j => va_rf (f j))).slots.getD _ _ = _
        rw [Array.getD_eq_getD_getElem?, arrV_read _ _ (by show 1 + i < 6; omega)]
        rfl
      rw [e]
      cases hy : f ((1 : Int32).toNatClampNeg + i) with
      | none => exact ⟨rfl, trivial⟩
      | some y =>
        have : ∃ j, tH x ((1 : Int32).toNatClampNeg + i) = some j ∧ wG w j 5 = y := by
          rw [← hfe] at hy
          cases hh : tH x ((1 : Int32).toNatClampNeg + i) with
          | none => simp only [hh] at hy; cases hy
          | some j => simp only [hh] at hy; cases hy; exact ⟨j, rfl, rfl⟩
        obtain ⟨j, hj1, hj2⟩ := this
        have hj : j < wn w := hI.2.2.2.2.2.2.2.2.1.2 _ j hj1
        obtain ⟨cellV, g1, g2, g3⟩ := rv_chain C hI hj
        rw [hj2] at g1
        obtain ⟨kA, comp, r1, r2, r3, -⟩ := hRA.2
        cases hk0.symm.trans r1
        cases hkk0.symm.trans r2
        obtain ⟨kC, hkC, -⟩ := Vm.findClass_spec g3
        obtain ⟨kE, hkE, -⟩ := Vm.findClass_spec r3
        obtain ⟨kC', hkC', -⟩ := hal.2.2 _ _ hkC
        obtain ⟨kE', hkE', -⟩ := hal.2.2 _ _ hkE
        refine ⟨rfl, cellV, (show T.heap[y]? = some cellV by rw [hT]; exact g1), (fun q h => by rw [h] at g2; cases g2), ⟨kC', hkC'⟩, ?_, ?_⟩
        · exact ⟨kE', hkE'⟩
        · show vm₁.assignable _ _ = true
          rw [hal.assignable]
          cases r3.symm.trans g3
          have := (C.2.1.1 1 _ rfl).2
          have hcc : cellV.cls = (wD w).1 1 := Option.some.inj (g3.symm.trans this.1)
          rw [hcc]
          exact va_assign this)
    (g := F0 m pc ls (.int 5 :: .int 0 :: .ref (wa w 26) :: .int 1 :: .ref (wa w 26) :: rest)) rfl (by rw [C.1.2.2.1]; exact hsize) (rest := rest) rfl (by rw [C.1.2.1]; exact hdg) hframes (by show 2 * 0 + _ + _ ≤ _; omega)
  have e1 : copied (vp_cell (wc w 8) (6, .inr (.inr (.inr (.inr f))))) (vp_cell (wc w 8) (6, .inr (.inr (.inr (.inr f))))) 1 0 5 = vp_cell (wc w 8) (6, .inr (.inr (.inr (.inr (va_cpy f f 1 0 5))))) := by
    rw [vp_cell_q, vp_cell_q]
    exact va_copied (fun z => va_rf z) (wc w 8) (wc w 8) f f (n0 := 6) (n1 := 6) (sp := 1) (dp := 0) (n := 5) (by decide)
  rw [e1] at X' step
  have e2 : va_cpy f f 1 0 5 = fun i => ((if i < 5 then tH x (i + 1) else tH x i)).map (fun q => wG w q 5) := by
    rw [← hfe]
    funext k
    unfold va_cpy
    by_cases h : k < 5
    · rw [if_pos ⟨Nat.zero_le _, by omega⟩, if_pos h, show 1 + (k - 0) = k + 1 by omega]
    · rw [if_neg (by omega), if_neg h]
  rw [e2] at X' step
  have hl : wa w 26 < H.size := (Array.getElem?_eq_some_iff.mp hc0).1
  generalize hnc : vp_cell (wc w 8) (6, .inr (.inr (.inr (.inr (fun i => ((if i < 5 then tH x (i + 1) else tH x i)).map (fun q => wG w q 5)))))) = nc at X' step
  have hheap : ((T.setVm vm').setCell (wa w 26) nc).heap = H.setIfInBounds (wa w 26) nc := by rw [← hT]; rfl
  have oq : ∀ q : Nat, q ≠ wa w 26 → (H.setIfInBounds (wa w 26) nc)[q]? = H[q]? := fun q hq => by simp [Array.getElem?_setIfInBounds, Ne.symm hq]
  have es : (H.setIfInBounds (wa w 26) nc)[wa w 26]? = some nc := by simp [Array.getElem?_setIfInBounds, hl]
  have hz : (H.setIfInBounds (wa w 26) nc).size = H.size := by simp
  have hSL := SL_set hc0 es (by rw [← hnc]; show (arrV (wc w 8) 6 _).slots.size = (arrV (wc w 8) 6 _).slots.size; rw [arrV_size, arrV_size]) hz oq
  have hI1 := fun (L : List Loc) hL => tI.setH (f := fun i => if i < 5 then tH x (i + 1) else tH x i) (L := L) hI (show (H.setIfInBounds (wa w 26) nc)[wa w 26]? = some (vp_cell _ _) by rw [hnc]; exact es) ⟨hz, oq, hSL⟩ hL (fun a b h => by
    by_cases h9 : a < 5
    · rw [if_pos h9] at h; exact hI.2.2.2.2.2.2.2.2.1.2 _ _ h
    · rw [if_neg h9] at h; exact hI.2.2.2.2.2.2.2.2.1.2 _ _ h)
  obtain ⟨t, b1, b2⟩ := (fun (L : List Loc) hL => t_tight (cells := cells) (slots := slots) (hI1 L hL) (kk _ _ (hI1 L hL))) _ (fun q hq => by
      obtain ⟨z, -, hz⟩ := List.mem_map.mp hq
      rw [← hz]) _ hheap X'
  exact ⟨t, step t b1, b2⟩
end TKR
