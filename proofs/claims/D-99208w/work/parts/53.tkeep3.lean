/-! keepsAhead walked; calls after which the world has more chains -/
set_option maxRecDepth 100000
def Gx (w : tO) (G : Nat → Nat → Nat) (n : Nat) : Prop := wn w ≤ n ∧ n ≤ 9 ∧ ∀ j r, j < wn w → G j r = wG w j r
theorem Gx.refl {w : tO} (h : wn w ≤ 9) : Gx w (wG w) (wn w) := ⟨Nat.le_refl _, h, fun _ _ _ => rfl⟩
theorem Gx.trans {w : tO} {G G1 : Nat → Nat → Nat} {n n1 : Nat} (h : Gx w G n) (h1 : Gx (tG w G n) G1 n1) : Gx w G1 n1 :=
  ⟨Nat.le_trans h.1 h1.1, h1.2.1, fun j r hj => (h1.2.2 j r (Nat.lt_of_lt_of_le hj h.1)).trans (h.2.2 j r hj)⟩
/-- a later world: more chains -/
def Wx (w0 w : tO) (n : Nat) : Prop := ∃ G, w = tG w0 G n ∧ Gx w0 G n
theorem Wx.refl {w : tO} (h : wn w ≤ 9) : Wx w w (wn w) := ⟨wG w, rfl, Gx.refl h⟩
theorem Wx.trans {w0 w w1 : tO} {n n1 : Nat} (h : Wx w0 w n) (h1 : Wx w w1 n1) : Wx w0 w1 n1 := by
  obtain ⟨G, rfl, hG⟩ := h
  obtain ⟨G1, rfl, hG1⟩ := h1
  exact ⟨G1, rfl, hG.trans hG1⟩
theorem Wx.n {w0 w : tO} {n : Nat} (h : Wx w0 w n) : wn w = n := by
  obtain ⟨G, rfl, hG⟩ := h
  rfl
def tQE (w : tO) (A : Nat → Prop) (B : Nat × Nat) (v : Option Value) (n1 : Nat) (x1 : TS) : Array Value → State → Outcome → State → Prop := fun a st o t => ∃ w1, Wx w w1 n1 ∧ tQ w1 A B v x1 a st o t
def tMetE (l : Launch) (y : MethodName) (ws : List Cond) (fr lo : Nat) (av : List Value) (w : tO) (A : Nat → Prop) (B : Nat × Nat) (x : TS) (v : Option Value) (n1 : Nat) (x1 : TS) : Prop :=
  Met l y ws (tRm B fr lo (tZ x) (tY x)) (va_Pc av (tB w A B x)) (tQE w A B v n1 x1) (B.1 - tZ x) (B.2 - tY x) A
def fT_keep3 (N : Nat) (B : Nat × Nat) (n : Nat) (x : TS) : Option (Nat × TS) :=
  (hget x (tS x 27)).bind fun o => o.bind fun j => (fC_become N B x j 0).bind fun x1 => some (n, sTS x1 27 (tS x1 27 + 1))
def fT_keep2 (N : Nat) (B : Nat × Nat) (n : Nat) (x : TS) : Option (Nat × TS) :=
  (hget x (tS x 27)).bind fun o => match o with
    | some _ => fT_keep3 N B n x
    | none => b2 (nwC B n x) fun n1 x1 => (hput x1 (tS x 27) n).bind fun x2 => fT_keep3 N B n1 x2
def fT_keepsAhead (N : Nat) (B : Nat × Nat) (n : Nat) (x : TS) : Option (Nat × TS) :=
  if tS x 27 = 6 then (hget x 0).bind fun o => o.bind fun j => (hput (sTS (hsl x) 27 (tS (hsl x) 27 - 1)) (tS (sTS (hsl x) 27 (tS (hsl x) 27 - 1)) 27) j).bind fun x2 => fT_keep2 N B n x2
  else fT_keep2 N B n x
abbrev frT_keepsAhead : Nat := 10
abbrev loT_keepsAhead : Nat := 400
section TKW
variable {p : Program} {l : Launch} {e : Env} {R : Room} {s : State} {m : MethodId} {args : Array Value} {below : List Frame} {meth : Method} {c : Code} {H : Heap} {locs : List Loc} {Q : State → Prop}
variable {cc : ByteArray} {pc nL cells slots fr lo : Nat} {ls : Array Slot} {rest : List Value} {w : tO} {A : Nat → Prop} {B : Nat × Nat} {x : TS} {ret0 : Option FieldType} {own : String} {G G1 : Nat → Nat → Nat} {n n1 : Nat}
theorem tCx_W {w0 : tO} (hW : Wx w0 w n) (C : tCx w0 A p s m args meth c cc nL own ret0) : tCx w A p s m args meth c cc nL own ret0 := by
  obtain ⟨G, rfl, -⟩ := hW
  exact C
theorem tCx_G (C : tCx w A p s m args meth c cc nL own ret0) : tCx (tG w G n) A p s m args meth c cc nL own ret0 := C
theorem tCx_GG (C : tCx (tG w G n) A p s m args meth c cc nL own ret0) : tCx (tG w G1 n1) A p s m args meth c cc nL own ret0 := C
theorem W_mono {Q1 : State → Prop} {g : JFrame} (h : W p l e R s m args below meth c H locs cells slots Q g) (hq : ∀ t, Q t → Q1 t) : W p l e R s m args below meth c H locs cells slots Q1 g := by
  intro T hT X
  obtain ⟨t, a, b⟩ := h T hT X
  exact ⟨t, a, hq t b⟩
theorem MQ_mono {Q1 Q2 : Array Value → State → Outcome → State → Prop} {mc ms : Nat} {t : State} (h : ∀ a st o t, Q1 a st o t → Q2 a st o t) (hq : MQ below Q1 args s mc ms A t) : MQ below Q2 args s mc ms A t := by
  obtain ⟨o, h1, h2, h3, h4⟩ := hq
  exact ⟨o, h1, h2, h _ _ _ _ h3, h4⟩
theorem tE_vret {w0 : tO} {x1 : TS} (hG : Wx w0 w n) (C : tCx w A p s m args meth c cc nL own none) (hI : tI w A B x s.heap H locs) (hf : some (n, x) = some (n1, x1)) (hdg : decode cc pc = .ok (.return_, 1)) :
    W p l e (tRm B fr lo s.heap.size (SL s.heap)) s m args below meth c H locs (tZ x - s.heap.size) (tY x - SL s.heap) (MQ below (tQE w0 A B none n1 x1) args s (B.1 - s.heap.size) (B.2 - SL s.heap) A) (F0 m pc ls []) := by
  cases hf
  exact W_mono (t_vret C hI rfl hdg) fun t => MQ_mono fun a st o t h => ⟨w, hG, h⟩
theorem tE_iret {w0 : tO} {v r : Int32} {x1 : TS} (hG : Wx w0 w n) (C : tCx w A p s m args meth c cc nL own (some .int)) (hI : tI w A B x s.heap H locs) (hf : some (v, n, x) = some (r, n1, x1)) (hdg : decode cc pc = .ok (.ireturn, 1)) :
    W p l e (tRm B fr lo s.heap.size (SL s.heap)) s m args below meth c H locs (tZ x - s.heap.size) (tY x - SL s.heap) (MQ below (tQE w0 A B (some (.int r)) n1 x1) args s (B.1 - s.heap.size) (B.2 - SL s.heap) A) (F0 m pc ls [.int v]) := by
  cases hf
  exact W_mono (t_iret C hI rfl hdg) fun t => MQ_mono fun a st o t h => ⟨w, hG, h⟩
theorem tE_zret {w0 : tO} {v r : Int32} {x1 : TS} (hG : Wx w0 w n) (C : tCx w A p s m args meth c cc nL own (some .boolean)) (hI : tI w A B x s.heap H locs) (hf : some (zb v, n, x) = some (r, n1, x1)) (hdg : decode cc pc = .ok (.ireturn, 1)) :
    W p l e (tRm B fr lo s.heap.size (SL s.heap)) s m args below meth c H locs (tZ x - s.heap.size) (tY x - SL s.heap) (MQ below (tQE w0 A B (some (.int r)) n1 x1) args s (B.1 - s.heap.size) (B.2 - SL s.heap) A) (F0 m pc ls [.int v]) := by
  cases hf
  exact W_mono (t_zret C hI rfl hdg) fun t => MQ_mono fun a st o t h => ⟨w, hG, h⟩
theorem tE_zretc {w0 : tO} {v v1 r : Int32} {x1 : TS} (hG : Wx w0 w n) (C : tCx w A p s m args meth c cc nL own (some .boolean)) (hI : tI w A B x s.heap H locs) (hz : zb v = v1) (hf : some (v1, n, x) = some (r, n1, x1)) (hdg : decode cc pc = .ok (.ireturn, 1)) :
    W p l e (tRm B fr lo s.heap.size (SL s.heap)) s m args below meth c H locs (tZ x - s.heap.size) (tY x - SL s.heap) (MQ below (tQE w0 A B (some (.int r)) n1 x1) args s (B.1 - s.heap.size) (B.2 - SL s.heap) A) (F0 m pc ls [.int v]) := tE_zret hG C hI (by rw [hz]; exact hf) hdg
theorem tE_start {y : MethodName} {maxL : Nat} {ret : Option FieldType} {av : List Value} {v : Option Value} {x1 : TS} {lv : List (Nat × Value)} (hy : plainFor y = true) (hcl : y.cls = own) (hlen : (lg_sl av).length ≤ maxL) (hlv : lv_args 0 av = lv)
    (body : ∀ (p : Program) (e : Env) (s : State) (m : MethodId) (args : Array Value) (below : List Frame) (meth : Method) (c : Code) (ls : Array Slot) (H : Heap) (locs : List Loc), Wx w w (wn w) → tCx w A p s m args meth c cc maxL own ret → meth.name = y.name → tI w A B x s.heap H locs → lv_has ls maxL lv → W p l e (tRm B fr lo s.heap.size (SL s.heap)) s m args below meth c H locs (tZ x - s.heap.size) (tY x - SL s.heap) (MQ below (tQE w A B v n1 x1) args s (B.1 - s.heap.size) (B.2 - SL s.heap) A) (F0 m 0 ls [])) :
    tMetE l y (ws_ y cc maxL ret) fr lo av w A B x v n1 x1 := by
  refine g_ofW (cc := cc) (maxL := maxL) (ret := ret) hy rfl ?_
  intro p e s m args below meth c s₁ B0 hml hv
  obtain ⟨rfl, hK, hE, hP, hD, hz, hsl, h1, h2, h3⟩ := hv
  have hts := atoms_spec (ws := ws_ y cc maxL ret) B0.pre
  have hown : s.vm.findClass own = some m.cls := by rw [← hcl]; exact findClass_of_methodNamed B0.named
  have hl := lv_entry av (n := maxL) hlen
  rw [lg_entry_eq]
  subst hlv
  have hI : tI w A B x s.heap s.heap [] := ⟨hP, hD, va_S.rf, hz, hsl, h1, ⟨h2, by omega⟩, h3⟩
  have k := body p e s m _ below meth c _ s.heap [] (Wx.refl hI.2.2.2.2.2.2.2.2.2) ⟨⟨B0.exec, B0.bytes, hml, hown, fun w h => hts w (List.mem_cons_of_mem _ h), B0.returns, B0.notSynchronized⟩, hK, hE⟩ (name_of_methodNamed B0.named B0.method).1 hI hl
  rw [← hz, ← hsl] at k ⊢
  rw [Nat.sub_self, Nat.sub_self] at k
  exact k
theorem tq_inE {w0 : tO} {v : Option Value} {x1 : TS} {a : Array Value} {st₀ t T' : State} {L : List Loc} {o : Outcome} (hW : Wx w0 w n1) (hI : tI w0 A B x s.heap H locs) (h0 : st₀.heap = H) (e1 : T'.heap = t.heap) (hL : ∀ q ∈ L, A q.base) (hq : tQ w A B v x1 a st₀ o t) : tI w A B x1 s.heap T'.heap (locs ++ L) := by
  obtain ⟨-, hP1, hD1, hF, hs1, hs2, hs3, hs4, hs5, hs6⟩ := hq
  have hS := hI.2.2.1
  have hF1 : H.size ≤ t.heap.size ∧ ∀ q : Nat, q < H.size → ¬ A q → t.heap[q]? = H[q]? := by
    obtain ⟨f1, f2⟩ := hF
    rw [h0] at f1 f2
    exact ⟨f1, f2⟩
  rw [h0] at hs6
  have hzz : tZ x ≤ tZ x1 := by rw [← hI.2.2.2.1, ← hs1]; exact hF1.1
  have hn : wn w0 ≤ wn w ∧ wn w ≤ 9 := by
    obtain ⟨G, rfl, hG⟩ := hW
    exact ⟨hG.1, hG.2.1⟩
  exact ⟨by rw [e1]; exact hP1, hD1, ⟨Nat.le_trans hS.1 (by rw [e1]; exact hF1.1), fun q h1 h2 => by rw [e1, hF1.2 q (Nat.lt_of_lt_of_le h1 hS.1) h2]; exact hS.2.1 q h1 h2, fun q hq => by
      rcases List.mem_append.mp hq with h | h
      · exact hS.2.2 q h
      · exact hL q h⟩, by rw [e1]; exact hs1, by rw [e1]; exact hs2, hs3, ⟨hs4, Nat.le_trans hI.2.2.2.2.2.2.1.2 (by rw [← hI.2.2.2.2.1]; exact hs6)⟩, fun q hq => hI.2.2.2.2.2.2.2.1 q (Nat.le_trans hzz hq), ⟨Nat.le_trans hI.2.2.2.2.2.2.2.2.1.1 hn.1, hs5⟩, hn.2⟩
theorem Wx.wa {w0 : tO} (h : Wx w0 w n) (k : Nat) : wa w k = wa w0 k := by
  obtain ⟨G, rfl, -⟩ := h
  rfl
theorem t_backE {st0 : List Value} {v : Option Value} {x1 : TS} {a : Array Value} (hI : tI w A B x s.heap H locs) (run : va_Run p l e R s m args below meth c H locs cells slots (B.1 - tZ x) (B.2 - tY x) (F0 m pc ls st0) rest (tQE w A B v n1 x1 a) A)
    (kk : ∀ w1 H locs, Wx w w1 n1 → tI w1 A B x1 s.heap H locs → W p l e R s m args below meth c H locs (tZ x1 - s.heap.size) (tY x1 - SL s.heap) Q (F0 m (pc + 3) ls (v.toList ++ rest))) : W p l e R s m args below meth c H locs cells slots Q (F0 m pc ls st0) := by
  intro T hT X
  obtain ⟨v9, st₀, t, T', L, h0, X', hL, e1, -, ⟨w1, hW, hq⟩, st⟩ := run T hT X
  have hv : v9 = v := by have := hq.1; cases this; rfl
  subst hv
  have hI1 := tq_inE hW hI h0 e1 hL hq
  obtain ⟨t2, a1, b1⟩ := t_tight hI1 (kk w1 T'.heap (locs ++ L) hW hI1) T' rfl X'
  exact ⟨t2, st t2 a1, b1⟩
end TKW
theorem cn_C_init : cN yX2_init cX2_init 2 none 1 := ⟨lw_meth q249, q153, by decide +kernel⟩
theorem cqX0_C_become0 : cV RX0 397 yX2_become cX2_become 2 none 1 := ⟨lw_V q842 q843 q844 q153 q845, by decide +kernel⟩
theorem tmT_keepsAhead (l : Launch) (N : Nat) {w : tO} {A : Nat → Prop} (B : Nat × Nat) (n : Nat) (hn : wn w = n) : ∀ (x : TS) (n1 : Nat) (x1 : TS), fT_keepsAhead N B n x = some (n1, x1) → tMetE l yX0_keepsAhead (ws_ yX0_keepsAhead cX0_keepsAhead 2 none) frT_keepsAhead loT_keepsAhead [.ref (wa w 37)] w A B x none n1 x1 := by
  intro x n1 x1 hf
  refine tE_start (cc := cX0_keepsAhead) (own := RX0) (by decide +kernel) rfl (Nat.le_of_ble_eq_true rfl) rfl ?_
  intro p e s m args below meth c ls H locs hG C hmn hI hl
  have hx := C.1.1
  have hb := C.1.2.1
  have hown := C.1.2.2.2.1
  have hts := C.1.2.2.2.2.1
  have k3 : ∀ (w1 : tO) (n : Nat) (x : TS) (H : Heap) (locs : List Loc) (ls : Array Slot), Wx w w1 n → tI w1 A B x s.heap H locs → lv_has ls 2 [(0, .ref (wa w1 37))] → fT_keep3 N B n x = some (n1, x1) → W p l e (tRm B frT_keepsAhead loT_keepsAhead s.heap.size (SL s.heap)) s m args below meth c H locs (tZ x - s.heap.size) (tY x - SL s.heap) (MQ below (tQE w A B none n1 x1) args s (B.1 - s.heap.size) (B.2 - SL s.heap) A) (F0 m 79 ls []) := by
    intro w1 n x H locs ls hG hI hl hf
    have C := tCx_W hG C
    unfold fT_keep3 at hf
    refine lv_aload_n hx hb dX0_keepsAhead_79 rfl (lv_at hl 0 rfl) ?_
    refine tgX0_165 C hI dX0_keepsAhead_80 ?_
    refine lv_aload_n hx hb dX0_keepsAhead_83 rfl (lv_at hl 0 rfl) ?_
    refine tgX0_377 C hI dX0_keepsAhead_84 ?_
    refine t_hald C hI hf dX0_keepsAhead_87 (fun o ho hf => ?_)
    cases o with
    | none => cases hf
    | some j =>
      have hj := ho j rfl
      have hf : (fC_become N B x j 0).bind (fun x1 => some (n, sTS x1 27 (tS x1 27 + 1))) = some (n1, x1) := hf
      refine W.eq (g2 := F0 m 88 ls [.ref (wG w1 j 5)]) rfl ?_
      refine lv_aload_n hx hb dX0_keepsAhead_88 rfl (lv_at hl 0 rfl) ?_
      refine tgX0_152 C hI dX0_keepsAhead_89 ?_
      refine t_cVv (rest := []) C hI hf (tmC_become l N B hj (tI.l3 hI (by decide)) _) (rv_chain C hI hj) cqX0_C_become0 ⟨Nat.le_of_ble_eq_true rfl, Nat.le_of_ble_eq_true rfl⟩ rfl hl.1 rfl (Nat.le_of_ble_eq_true rfl) dX0_keepsAhead_92 (fun x2 H locs hI hf => ?_)
      refine lv_aload_n hx hb dX0_keepsAhead_95 rfl (lv_at hl 0 rfl) ?_
      refine lv_dup hx hb dX0_keepsAhead_96 rfl ?_
      refine tgX0_377 C hI dX0_keepsAhead_97 ?_
      refine lv_iconst (v := 1) hx hb dX0_keepsAhead_100 (by decide) ?_
      refine lv_iadd hx hb dX0_keepsAhead_101 ?_
      refine tpX0_377 C hI dX0_keepsAhead_102 (fun H locs hI => ?_)
      exact tE_vret hG C hI hf dX0_keepsAhead_105
  have k2 : ∀ (x : TS) (H : Heap) (locs : List Loc) (ls : Array Slot), tI w A B x s.heap H locs → lv_has ls 2 [(0, .ref (wa w 37))] → fT_keep2 N B n x = some (n1, x1) → W p l e (tRm B frT_keepsAhead loT_keepsAhead s.heap.size (SL s.heap)) s m args below meth c H locs (tZ x - s.heap.size) (tY x - SL s.heap) (MQ below (tQE w A B none n1 x1) args s (B.1 - s.heap.size) (B.2 - SL s.heap) A) (F0 m 50 ls []) := by
    intro x H locs ls hI hl hf
    unfold fT_keep2 at hf
    refine lv_aload_n hx hb dX0_keepsAhead_50 rfl (lv_at hl 0 rfl) ?_
    refine tgX0_165 C hI dX0_keepsAhead_51 ?_
    refine lv_aload_n hx hb dX0_keepsAhead_54 rfl (lv_at hl 0 rfl) ?_
    refine tgX0_377 C hI dX0_keepsAhead_55 ?_
    refine t_hald C hI hf dX0_keepsAhead_58 (fun o ho hf => ?_)
    cases o with
    | some j =>
      refine lv_ifnonnull (tgt := 79) hx hb dX0_keepsAhead_59 (by decide) ?_
      exact k3 w n _ _ _ _ (hn ▸ hG) hI hl hf
    | none =>
      refine lv_ifnonnullN hx hb dX0_keepsAhead_59 ?_
      have hf : b2 (nwC B n x) (fun n2 x2 => (hput x2 (tS x 27) n).bind fun x3 => fT_keep3 N B n2 x3) = some (n1, x1) := hf
      obtain ⟨n2, x2, hv, hf⟩ := b2_some hf
      unfold nwC at hv
      by_cases hc : n < 9 ∧ tZ x + 6 ≤ B.1 ∧ tY x + 74 ≤ B.2
      case neg => rw [if_neg hc] at hv; cases hv
      rw [if_pos hc] at hv
      cases hv
      refine W.eq (g2 := F0 m 62 ls []) rfl ?_
      refine lv_aload_n hx hb dX0_keepsAhead_62 rfl (lv_at hl 0 rfl) ?_
      refine tgX0_165 C hI dX0_keepsAhead_63 ?_
      refine lv_aload_n hx hb dX0_keepsAhead_66 rfl (lv_at hl 0 rfl) ?_
      refine tgX0_377 C hI dX0_keepsAhead_67 ?_
      obtain ⟨D, hm1, hm2, hm3, hm4⟩ := chain_made (N := N) (m := wa w 37) hc.2
      have hD0 : ∀ j, tZ x ≤ j → tD x j = none := fun j hj => by
        cases h : tD x j with
        | none => rfl
        | some e =>
          have := (hI.at (TK_d h)).lt
          rw [hI.2.2.2.1] at this
          exact absurd this (by show ¬ j < tZ x; omega)
      have ha : b2 (alc B x 14 (dO 1 dfC)) (fun q z => some (q, z)) = some (tZ x, sTN x 14 (dO 1 dfC)) := by
        rw [alc_eq ⟨by omega, by omega⟩]
        rfl
      refine t_new C hI ha rfl in_X2 tyX2 tyX2_ok q245 q246 q153 dfX2 dX0_keepsAhead_70 (fun q1 x3 H locs hI ha => ?_)
      cases ha
      refine lv_dup hx hb dX0_keepsAhead_73 rfl ?_
      refine lv_aload_n hx hb dX0_keepsAhead_74 rfl (lv_at hl 0 rfl) ?_
      refine t_callIN0 (rest := [.ref (tZ x), .int (tS x 27), .ref (wa w 26)]) C hI (tmC_init l N B _ _ _ _ hm1) rfl q248 (List.mem_of_getElem? (i := 1) rfl) cn_C_init ⟨Nat.le_of_ble_eq_true rfl, Nat.le_of_ble_eq_true rfl⟩ rfl hl.1 rfl (Nat.le_of_ble_eq_true rfl) dX0_keepsAhead_75 (fun H locs hI => ?_)
      have hI2 := adopt (w := w) (n := n) hn hc.1 hD0 hI hm2 hm3 hm4
      have hG2 : Wx w (tG w (nG w (tZ x)) (n + 1)) (n + 1) := ⟨_, rfl, by show wn w ≤ n + 1; omega, by omega, fun j r hj => if_neg (by omega)⟩
      have C2 := tCx_W hG2 C
      have hl2 : lv_has ls 2 [(0, .ref (wa (tG w (nG w (tZ x)) (n + 1)) 37))] := hl
      have e5 : nG w (tZ x) n 5 = tZ x := by unfold nG; rw [if_pos hn.symm, if_pos rfl]
      refine W.eq (g2 := F0 m 78 ls [.ref (wG (tG w (nG w (tZ x)) (n + 1)) n 5), .int (tS x 27), .ref (wa (tG w (nG w (tZ x)) (n + 1)) 26)]) (by show _ = F0 m 78 ls [.ref (nG w (tZ x) n 5), _, _]; rw [e5]; rfl) ?_
      refine t_tight hI2 ?_
      refine t_hast (w := tG w (nG w (tZ x)) (n + 1)) C2 hI2 (by show n < n + 1; omega) hf dX0_keepsAhead_78 (fun x4 H locs hI hf => ?_)
      exact k3 _ _ _ _ _ _ hG2 hI hl2 hf
  unfold fT_keepsAhead at hf
  refine lv_aload_n hx hb dX0_keepsAhead_0 rfl (lv_at hl 0 rfl) ?_
  refine tgX0_377 C hI dX0_keepsAhead_1 ?_
  refine lv_bipush (v := 6) hx hb dX0_keepsAhead_4 (by decide) ?_
  refine b_icne (tgt := 50) hx hb hf dX0_keepsAhead_6 (by decide) (fun hf => ?_) (fun hf => ?_)
  · exact k2 _ _ _ _ hI hl hf
  refine lv_aload_n hx hb dX0_keepsAhead_9 rfl (lv_at hl 0 rfl) ?_
  refine tgX0_165 C hI dX0_keepsAhead_10 ?_
  refine lv_iconst (v := 0) hx hb dX0_keepsAhead_13 (by decide) ?_
  refine t_hald C hI hf dX0_keepsAhead_14 (fun o ho hf => ?_)
  cases o with
  | none => cases hf
  | some j =>
    have hj := ho j rfl
    have hf : (hput (sTS (hsl x) 27 (tS (hsl x) 27 - 1)) (tS (sTS (hsl x) 27 (tS (hsl x) 27 - 1)) 27) j).bind (fun x2 => fT_keep2 N B n x2) = some (n1, x1) := hf
    refine W.eq (g2 := F0 m 15 ls [.ref (wG w j 5)]) rfl ?_
    refine lv_astore_n (lv' := [(1, .ref (wG w j 5)), (0, .ref (wa w 37))]) hx hb dX0_keepsAhead_15 rfl hl (by decide) rfl (fun ls hl => ?_)
    refine lv_aload_n hx hb dX0_keepsAhead_16 rfl (lv_at hl 1 rfl) ?_
    refine tgX0_165 C hI dX0_keepsAhead_17 ?_
    refine lv_iconst (v := 1) hx hb dX0_keepsAhead_20 (by decide) ?_
    refine lv_aload_n hx hb dX0_keepsAhead_21 rfl (lv_at hl 1 rfl) ?_
    refine tgX0_165 C hI dX0_keepsAhead_22 ?_
    refine lv_iconst (v := 0) hx hb dX0_keepsAhead_25 (by decide) ?_
    refine lv_iconst (v := 5) hx hb dX0_keepsAhead_26 (by decide) ?_
    refine t_hcopy C hI hl.1 q849 q851 q850 q155 (Nat.le_of_ble_eq_true rfl) (show (0 : Nat) + (nativeFrameWords "java/lang/System" "arraycopy" 5 + 11) ≤ 400 from by decide) dX0_keepsAhead_27 (fun H locs hI => ?_)
    refine lv_aload_n hx hb dX0_keepsAhead_30 rfl (lv_at hl 1 rfl) ?_
    refine lv_dup hx hb dX0_keepsAhead_31 rfl ?_
    refine tgX0_377 C hI dX0_keepsAhead_32 ?_
    refine lv_iconst (v := 1) hx hb dX0_keepsAhead_35 (by decide) ?_
    refine lv_isub hx hb dX0_keepsAhead_36 ?_
    refine tpX0_377 C hI dX0_keepsAhead_37 (fun H locs hI => ?_)
    refine lv_aload_n hx hb dX0_keepsAhead_40 rfl (lv_at hl 1 rfl) ?_
    refine tgX0_165 C hI dX0_keepsAhead_41 ?_
    refine lv_aload_n hx hb dX0_keepsAhead_44 rfl (lv_at hl 1 rfl) ?_
    refine tgX0_377 C hI dX0_keepsAhead_45 ?_
    refine lv_aload_n hx hb dX0_keepsAhead_48 rfl (lv_at hl 0 rfl) ?_
    refine t_hast C hI hj hf dX0_keepsAhead_49 (fun x4 H locs hI hf => ?_)
    exact k2 _ _ _ _ hI (lv_sub hl [1] rfl) hf
