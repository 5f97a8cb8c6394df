/-! ROWS OF THE SYSTEM, LAST: nulls, static nest mates, whole copies of arrays -/
set_option maxRecDepth 100000
section TD
variable {p : Program} {l : Launch} {e : Env} {R : Room} {s : State} {m : MethodId} {args : Array Value} {below : List Frame} {meth : Method} {c : Code} {H : Heap} {locs : List Loc} {Q : State → Prop}
variable {cc : ByteArray} {pc nL cells slots fr lo : Nat} {ls : Array Slot} {rest : List Value} {w : tO} {A : Nat → Prop} {B : Nat × Nat} {x : TS} {ret0 : Option FieldType} {own : String}
theorem b_ifnull {β : Type} {o : Option Nat} {off : Int} {tgt : Nat} {i : Decidable (o.isNone = true)} {a b r : β} (hexec : p.tables.exec = Jvm.exec) (hb : c.code = cc) (hf : @ite β (o.isNone = true) i a b = r) (hdg : decode cc pc = .ok (.ifnull off, 3)) (ht : (pc : Int) + off = (tgt : Int)) (kt : a = r → W p l e R s m args below meth c H locs cells slots Q (F0 m tgt ls rest)) (kf : b = r → W p l e R s m args below meth c H locs cells slots Q (F0 m (pc + 3) ls rest)) : W p l e R s m args below meth c H locs cells slots Q (F0 m pc ls (va_rf o :: rest)) := by
  cases o with
  | none => exact lv_ifnullN hexec hb hdg ht (kt (it_p rfl hf))
  | some q => exact lv_ifnull hexec hb hdg (kf (it_n (by simp) hf))
theorem b_ifnonnull {β : Type} {o : Option Nat} {off : Int} {tgt : Nat} {i : Decidable (o.isNone = true)} {a b r : β} (hexec : p.tables.exec = Jvm.exec) (hb : c.code = cc) (hf : @ite β (o.isNone = true) i b a = r) (hdg : decode cc pc = .ok (.ifnonnull off, 3)) (ht : (pc : Int) + off = (tgt : Int)) (kt : a = r → W p l e R s m args below meth c H locs cells slots Q (F0 m tgt ls rest)) (kf : b = r → W p l e R s m args below meth c H locs cells slots Q (F0 m (pc + 3) ls rest)) : W p l e R s m args below meth c H locs cells slots Q (F0 m pc ls (va_rf o :: rest)) := by
  cases o with
  | none => exact lv_ifnonnullN hexec hb hdg (kf (it_p rfl hf))
  | some q => exact lv_ifnonnull hexec hb hdg ht (kt (it_n (by simp) hf))
theorem g_calliSN {β : Type} {index maxL n : Nat} {y : MethodName} {bytes : ByteArray} {ret : Option FieldType} {rm : Room} {As st0 : List Value} {F : Option Int32} {f : Int32 → Option β} {r : β}
    (C : tCx w A p s m args meth c cc nL own ret0) (hf : F.bind f = some r) (hM : ∀ v, F = some v → sMet l y (ws_ y bytes maxL ret) rm As (some (.int v))) (cw : cN y bytes maxL ret n) (hq : Cond.static y ∈ lw_all) (hl : (own, index, y, "TwelveChain") ∈ nM) (hz : rm.cells = 0 ∧ rm.slots = 0) (hR : cR rm R maxL)
    (hn : As.length = n) (hsize : ls.size = nL) (hst : st0 = As.reverse ++ rest) (hW : (rest.map fun v => v.category).sum ≤ 8) (hfit : cells ≤ R.cells ∧ slots ≤ R.slots) (hdg : decode cc pc = .ok (.invokestatic index, 3))
    (kk : ∀ v, f v = some r → W p l e R s m args below meth c H locs cells slots Q (F0 m (pc + 3) ls (.int v :: rest))) : W p l e R s m args below meth c H locs cells slots Q (F0 m pc ls st0) := by
  obtain ⟨hx, hb, hml, hown, hts, -, -⟩ := C.1
  have hnest := C.2.2.2.2.2.1.2.1 _ hl
  obtain ⟨v, hv, hk⟩ := b1_some hf
  have run := va_runSN (l := l) (e := e) (R := R) (below := below) (meth := meth) (H := H) (locs := locs) (cells := cells) (slots := slots) (As := As) (rest := rest) (g := F0 m pc ls st0) (nL := nL) (Ts := lw_all) (index := index) (n := n) (host := "TwelveChain") ⟨hx, hb, hml, hown, hts⟩ (hM v hv)
    ⟨va_cnB n hts cw.1 rfl hz.1 hz.2 hnest (hts _ cw.2.1) cw.2.2 hR, hts _ hq, trivial⟩ ⟨va_Pc_blind (fun _ _ _ _ _ => trivial), fun _ _ _ => ⟨rfl, trivial⟩⟩ rfl hn hsize hst (lv_room hW) hdg ⟨by omega, by omega⟩
  intro T hT X
  obtain ⟨w9, st₀, t, T', L, h0, X', hL, e1, -, ⟨hw, hh⟩, st⟩ := run T hT X
  have hL0 : L = [] := by
    cases L with
    | nil => rfl
    | cons a b => exact absurd (hL a List.mem_cons_self) id
  subst hL0
  cases hw
  rw [List.append_nil] at X'
  obtain ⟨t2, a1, b1⟩ := kk v hk T' (by rw [e1, hh, h0]) X'
  exact ⟨t2, st t2 a1, b1⟩
/-- a whole int array onto another of its length -/
theorem x_copy {a0 a1 n : Nat} {c0 : ClassId} {f g : Nat → Int32} {index : Nat} {N1 : Int32} (hexec : p.tables.exec = Jvm.exec) (hb : c.code = cc) (hml : c.maxLocals = ls.size) (hown : s.vm.findClass own = some m.cls) (hlink : (Cond.methodLink own index arraycopyName).before args s = true) (hnat : (Cond.native arraycopyName).before args s = true) (hstat : (Cond.static arraycopyName).before args s = true) (hini : (Cond.initialized "java/lang/System").before args s = true)
    (hA : ArrOfT s c0 .int) (hat0 : va_at (wD w) clz (a0, .inl (c0, n, .inl f)) H) (hat1 : va_at (wD w) clz (a1, .inl (c0, n, .inl g)) H) (hN : N1 = nI n) (hn31 : n < 2 ^ 31) (hframes : 1 ≤ R.frames) (hlocals : (rest.map fun v => v.category).sum + (nativeFrameWords "java/lang/System" "arraycopy" 5 + 11) ≤ R.locals) (hdg : decode cc pc = .ok (.invokestatic index, 3))
    (kk : ∀ (H1 : Heap) (L : List Loc), va_at (wD w) clz (a1, .inl (c0, n, .inl f)) H1 → But H H1 a1 → (∀ q ∈ L, q.base = a1) → W p l e R s m args below meth c H1 (locs ++ L) cells slots Q (F0 m (pc + 3) ls rest)) : W p l e R s m args below meth c H locs cells slots Q (F0 m pc ls (.int N1 :: .int 0 :: .ref a1 :: .int 0 :: .ref a0 :: rest)) := by
  subst hN
  have hc3 : ¬ nI n < 0 := nI_pos hn31
  have hcl : (nI n).toNatClampNeg = n := nI_clamp hn31
  have hti : (nI n).toInt = (n : Int) := nI_toInt hn31
  intro T hT X
  have hc0 : H[a0]? = some (vp_cell c0 (n, .inl f)) := hat0
  have hc1 : H[a1]? = some (vp_cell c0 (n, .inl g)) := hat1
  obtain ⟨-, k0, hk0, cm0, hkk0⟩ := hA n (fun j => .int (f j))
  obtain ⟨-, k1, hk1, cm1, hkk1⟩ := hA n (fun j => .int (g j))
  obtain ⟨vm', X', step⟩ := X.arraycopy hexec hown hlink hnat hstat hini (src := a0) (dst := a1) (cs := vp_cell c0 (n, .inl f)) (cd := vp_cell c0 (n, .inl g)) (srcPos := 0) (destPos := 0) (n := nI n) (by rw [hT]; exact hc0) (by rw [hT]; exact hc1)
    (fun _ h => by cases h) (fun _ h => by cases h) (fun h => by cases h) (fun h => by cases h) hk0 hk1 hkk0 hkk1 (by simp [refKind]) (by decide) (by decide) hc3
    (by rw [hti]; show ¬ _ > ((arrV c0 n (fun j => .int (f j))).slots.size : Int); rw [arrV_size]; show ¬ ((0 : Int) + n > n); omega)
    (by rw [hti]; show ¬ _ > ((arrV c0 n (fun j => .int (g j))).slots.size : Int); rw [arrV_size]; show ¬ ((0 : Int) + n > n); omega)
    (fun vm₁ _ i hi => by
      rw [hcl] at hi
      have e : (vp_cell c0 (n, .inl f)).slots.getD ((0 : Int32).toNatClampNeg + i) .null = .int (f ((0 : Int32).toNatClampNeg + i)) := by
        show (arrV c0 n (fun j => .int (f j))).slots.getD _ _ = _
        rw [Array.getD_eq_getD_getElem?, arrV_read _ _ (by show 0 + i < n; omega)]
        rfl
      refine ⟨?_, ?_⟩
      · rw [e]; rfl
      · rw [e]; exact trivial)
    (g := F0 m pc ls (.int (nI n) :: .int 0 :: .ref a1 :: .int 0 :: .ref a0 :: rest)) rfl (by rw [hml]) (rest := rest) rfl (by rw [hb]; exact hdg) hframes (by show 2 * 0 + _ + _ ≤ _; omega)
  have e1 : copied (vp_cell c0 (n, .inl f)) (vp_cell c0 (n, .inl g)) 0 0 (nI n) = vp_cell c0 (n, .inl f) := by
    have h := va_copied (sp := (0 : Int32).toNatClampNeg) (dp := (0 : Int32).toNatClampNeg) (n := (nI n).toNatClampNeg) (fun z => Value.int z) c0 c0 f g (n0 := n) (n1 := n) (by rw [hcl]; show 0 + n ≤ n; omega)
    refine Eq.trans h ?_
    show arrV c0 n _ = arrV c0 n (fun j => Value.int (f j))
    unfold arrV
    congr 1
    apply Array.ext
    · simp
    · intro i h1 h2
      simp only [Array.getElem_ofFn]
      have hi : i < n := by simpa using h1
      rw [pk_cpy_in (by show 0 ≤ i; omega) (by rw [hcl]; show i < 0 + n; omega)]
      show Value.int (f (0 + (i - 0))) = _
      rw [Nat.zero_add, Nat.sub_zero]
  rw [e1] at X' step
  have hl : a1 < H.size := (Array.getElem?_eq_some_iff.mp hc1).1
  have hheap : ((T.setVm vm').setCell a1 (vp_cell c0 (n, .inl f))).heap = H.setIfInBounds a1 (vp_cell c0 (n, .inl f)) := by rw [← hT]; rfl
  have oq : ∀ q : Nat, q ≠ a1 → (H.setIfInBounds a1 (vp_cell c0 (n, .inl f)))[q]? = H[q]? := fun q hq => by simp [Array.getElem?_setIfInBounds, Ne.symm hq]
  have es : (H.setIfInBounds a1 (vp_cell c0 (n, .inl f)))[a1]? = some (vp_cell c0 (n, .inl f)) := by simp [Array.getElem?_setIfInBounds, hl]
  have hz : (H.setIfInBounds a1 (vp_cell c0 (n, .inl f))).size = H.size := by simp
  have hSL := SL_set hc1 es (by show (arrV c0 n _).slots.size = (arrV c0 n _).slots.size; rw [arrV_size, arrV_size]) hz oq
  obtain ⟨t, b1, b2⟩ := kk _ _ (show (H.setIfInBounds a1 _)[a1]? = some _ from es) ⟨hz, oq, hSL⟩ (fun q hq => by
      obtain ⟨z, -, hz⟩ := List.mem_map.mp hq
      rw [← hz]) _ hheap X'
  exact ⟨t, step t b1, b2⟩
theorem tI.setL {k a : Nat} {e0 e : DE} {x1 : TS} {H0 H1 : Heap} {L : List Loc} (hI : tI w A B x H0 H locs) (hk : TK w x k = some (a, e0)) (he : tAt w (a, e) H1) (hb : But H H1 a) (hL : ∀ q ∈ L, q.base = a) (hU : kU (TK w x) k (a, e) = TK w x1) (hz : tZ x1 = tZ x) (hy : tY x1 = tY x) (hh : tH x1 = tH x) : tI w A B x1 H0 H1 (locs ++ L) := by
  obtain ⟨h1, h2, h3, h4, h5, h6, h7, h8, h9⟩ := hI
  obtain ⟨b1, b2, b3⟩ := hb
  have hA := h2.2 k _ hk
  refine ⟨hU ▸ h1.set h2 hk he b2, hU ▸ h2.set hk, ⟨by rw [b1]; exact h3.1, fun q q1 q2 => ?_, fun q hq => ?_⟩, by rw [b1, hz]; exact h4, by rw [b3, hy]; exact h5, by rw [hz]; exact h6, by rw [hy]; exact h7, by rw [hz]; exact h8, ⟨h9.1.1, fun i j q => h9.1.2 i j (by rw [← hh]; exact q)⟩, h9.2⟩
  · rw [b2 q (fun e => q2 (by rw [e]; exact hA))]; exact h3.2.1 q q1 q2
  · rcases List.mem_append.mp hq with h | h
    · exact h3.2.2 q h
    · rw [hL q h]; exact hA
end TD
abbrev frT_copies : Nat := 1
abbrev loT_copies : Nat := 18
theorem nfw_copy : 0 + (nativeFrameWords "java/lang/System" "arraycopy" 5 + 11) ≤ loT_copies := by decide
/-- copies(from, to): two int arrays of the world, of one length -/
theorem tmT_copies (l : Launch) {w : tO} {A : Nat → Prop} {B : Nat × Nat} {x x1 : TS} {k0 k1 a0 a1 n : Nat} {f g : Nat → Int32} (h0 : TK w x k0 = some (a0, dI 0 n f)) (h1 : TK w x k1 = some (a1, dI 0 n g)) (hn : n < 2 ^ 31) (hU : kU (TK w x) k1 (a1, dI 0 n f) = TK w x1) (hz : tZ x1 = tZ x) (hy : tY x1 = tY x) (hh : tH x1 = tH x) : tMet l yX0_copies (ws_ yX0_copies cX0_copies 2 none) frT_copies loT_copies [.ref a0, .ref a1] w A B x none x1 := by
  refine t_start (cc := cX0_copies) (own := RX0) (by decide +kernel) rfl (Nat.le_of_ble_eq_true rfl) rfl ?_
  intro p e s m args below meth c ls H locs C hnm hI hl
  have hx := C.1.1
  have hb := C.1.2.1
  have hown := C.1.2.2.2.1
  have hts := C.1.2.2.2.2.1
  refine lv_aload_n hx hb dX0_copies_0 rfl (lv_at hl 0 rfl) ?_
  refine lv_iconst (v := 0) hx hb dX0_copies_1 (by decide) ?_
  refine lv_aload_n hx hb dX0_copies_2 rfl (lv_at hl 1 rfl) ?_
  refine lv_iconst (v := 0) hx hb dX0_copies_3 (by decide) ?_
  refine lv_aload_n hx hb dX0_copies_4 rfl (lv_at hl 0 rfl) ?_
  refine va_alen (ws := [(a0, .inl (wc w 0, n, .inl f))]) (v := nI n) hx hb C.2.1 (at_one (hI.at h0)) 0 0 rfl rfl rfl dX0_copies_5 ?_
  refine x_copy (w := w) (own := RX0) (c0 := wc w 0) (f := f) (g := g) hx hb (C.1.2.2.1.trans hl.1.symm) hown (hts _ q849) (hts _ q851) (hts _ q850) (hts _ q155) (C.2.1.2 0 _ rfl).1 (hI.at h0) (hI.at h1) rfl hn (Nat.le_refl _) nfw_copy dX0_copies_6 fun H1 L g1 g2 hL => ?_
  have hI1 := tI.setL (e := dI 0 n f) hI h1 g1 g2 hL hU hz hy hh
  have k := t_vret (fr := frT_copies) (lo := loT_copies) (pc := 9) (ls := ls) (l := l) (e := e) (below := below) C hI1 rfl dX0_copies_9
  rw [hz, hy] at k
  exact k
