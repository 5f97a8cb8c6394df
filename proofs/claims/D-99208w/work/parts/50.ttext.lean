/-! text(k): the parser under its handlers -/
set_option maxRecDepth 100000
def hhT : List (Nat × Nat × Nat × Nat) := [((10 : Nat), (29 : Nat), (36 : Nat), (252 : Nat)), ((10 : Nat), (29 : Nat), (62 : Nat), (0 : Nat)), ((36 : Nat), (55 : Nat), (62 : Nat), (0 : Nat)), ((62 : Nat), (64 : Nat), (62 : Nat), (0 : Nat))]
def fT_text_end (x : TS) (v : Int32) : Option (Int32 × TS) := some (v, sTS x 1 0)
def fT_text (N : Nat) (B : Nat × Nat) (x : TS) (l1 : Int32) : Option (Int32 × TS) :=
  (fT_isIn N l1 0 3).bind fun v1 =>
  if v1 = 0 then fT_text_end (sTS (sTS x 14 0) 15 (-1)) (-1)
  else match fT_readsText N B (sTS (sTS x 14 0) 15 (-1)) l1 with
    | some (.inr v, x1) => fT_text_end x1 v
    | some (.inl q, x1) => (dgI x1 q 4 6).bind fun kd => (dgI (sTS x1 14 kd) q 4 7).bind fun pl => some (-1, sTS (sTS (sTS x1 14 kd) 15 pl) 1 0)
    | none => none
abbrev frT_text : Nat := 51
abbrev loT_text : Nat := 1440
theorem cqX0_T_readsText0 : cV RX0 383 yX0_readsText cX0_readsText 2 (some .int) 1 := ⟨lw_V q442 q444 qs1 q151 q445, by decide +kernel⟩
theorem tmT_text (l : Launch) (N : Nat) {w : tO} {A : Nat → Prop} (B : Nat × Nat) : ∀ (x : TS) (l1 : Int32) (r : Int32) (xr : TS), fT_text N B x l1 = some (r, xr) → tMet l yX0_text (wsW_ yX0_text cX0_text 5 (some .int) hhT) frT_text loT_text [.ref (wa w 37), .int l1] w A B x (some (.int r)) xr := by
  intro x l1 r xr hf
  refine va_MetW (cc := cX0_text) (maxL := 5) (ret := some .int) (hh := hhT) (by decide +kernel) rfl ?_
  intro p e s m args below meth c s₁ B0 hml hv
  obtain ⟨rfl, hK, hE, hP, hD, hz, hsl, h1, h2, h3⟩ := hv
  have hts0 := atoms_spec (ws := wsW_ yX0_text cX0_text 5 (some .int) hhT) B0.pre
  have htab : c.exceptionTable.toList = tableOf hhT := vx_table (x := yX0_text) B0 (hts0 _ List.mem_cons_self)
  have hown : s.vm.findClass RX0 = some m.cls := findClass_of_methodNamed B0.named
  have hl := lv_entry [Value.ref (wa w 37), .int l1] (n := 5) (Nat.le_of_ble_eq_true rfl)
  rw [lg_entry_eq]
  have hl : lv_has _ 5 [(0, .ref (wa w 37)), (1, .int l1)] := hl
  have hI : tI w A B x s.heap s.heap [] := ⟨hP, hD, va_S.rf, hz, hsl, h1, ⟨h2, by omega⟩, h3⟩
  have C : tCx w A p s m _ meth c cX0_text 5 RX0 (some .int) := ⟨⟨B0.exec, B0.bytes, hml, hown, fun w h => hts0 w (List.mem_cons_of_mem _ h), B0.returns, B0.notSynchronized⟩, hK, hE⟩
  have goal : ∀ ls : Array Slot, lv_has ls 5 [(0, .ref (wa w 37)), (1, .int l1)] → W p l e (tRm B frT_text loT_text s.heap.size (SL s.heap)) s m #[Value.ref (wa w 37), Value.int l1] below meth c s.heap [] (tZ x - s.heap.size) (tY x - SL s.heap) (MQ below (tQ w A B (some (.int r)) xr) #[Value.ref (wa w 37), Value.int l1] s (B.1 - s.heap.size) (B.2 - SL s.heap) A) (F0 m 0 ls []) := by
    intro ls hl
    have hx := C.1.1
    have hb := C.1.2.1
    have hts := C.1.2.2.2.2.1
    unfold fT_text at hf
    have tail : ∀ (v : Int32) (x : TS) (H : Heap) (locs : List Loc) (ls : Array Slot), tI w A B x s.heap H locs → lv_has ls 5 [(0, .ref (wa w 37)), (1, .int l1)] → fT_text_end x v = some (r, xr) → W p l e (tRm B frT_text loT_text s.heap.size (SL s.heap)) s m #[Value.ref (wa w 37), Value.int l1] below meth c H locs (tZ x - s.heap.size) (tY x - SL s.heap) (MQ below (tQ w A B (some (.int r)) xr) #[Value.ref (wa w 37), Value.int l1] s (B.1 - s.heap.size) (B.2 - SL s.heap) A) (F0 m 28 ls [.int v]) := by
      intro v x H locs ls hI hl hf
      refine lv_istore_n (lv' := [(2, .int v), (0, .ref (wa w 37)), (1, .int l1)]) hx hb dX0_text_28 rfl hl (by decide) rfl (fun ls hl => ?_)
      refine lv_aload_n hx hb dX0_text_29 rfl (lv_at hl 1 rfl) ?_
      refine lv_iconst (v := 0) hx hb dX0_text_30 (by decide) ?_
      refine tpX0_181 C hI dX0_text_31 (fun H locs hI => ?_)
      refine lv_iload_n hx hb dX0_text_34 rfl (lv_at hl 0 rfl) ?_
      exact t_iret C hI hf dX0_text_35
    refine lv_aload_n hx hb dX0_text_0 rfl (lv_at hl 0 rfl) ?_
    refine lv_iconst (v := 0) hx hb dX0_text_1 (by decide) ?_
    refine tpX0_380 C hI dX0_text_2 (fun H locs hI => ?_)
    refine lv_aload_n hx hb dX0_text_5 rfl (lv_at hl 0 rfl) ?_
    refine lv_iconst (v := (-1)) hx hb dX0_text_6 (by decide) ?_
    refine tpX0_114 C hI dX0_text_7 (fun H locs hI => ?_)
    refine lv_iload_n hx hb dX0_text_10 rfl (lv_at hl 1 rfl) ?_
    refine lv_iconst (v := 0) hx hb dX0_text_11 (by decide) ?_
    refine lv_iconst (v := 3) hx hb dX0_text_12 (by decide) ?_
    refine g_calliS (rest := []) C.1 hf (smT_isIn l N _ _ _) cqT_T_isIn ⟨rfl, rfl⟩ ⟨Nat.le_of_ble_eq_true rfl, Nat.le_of_ble_eq_true rfl⟩ rfl hl.1 rfl (Nat.le_of_ble_eq_true rfl) (t_room hI) dX0_text_13 (fun v1 hf => ?_)
    refine b_ifeq (tgt := 27) hx hb hf dX0_text_16 (by decide) (fun hf => ?_) (fun hf => ?_)
    · refine lv_iconst (v := (-1)) hx hb dX0_text_27 (by decide) ?_
      exact tail _ _ _ _ _ hI hl hf
    refine lv_aload_n hx hb dX0_text_19 rfl (lv_at hl 0 rfl) ?_
    refine lv_iload_n hx hb dX0_text_20 rfl (lv_at hl 1 rfl) ?_
    cases hF : fT_readsText N B (sTS (sTS x 14 0) 15 (-1)) l1 with
    | none => rw [hF] at hf; cases hf
    | some rr =>
      obtain ⟨r1, x1⟩ := rr
      rw [hF] at hf
      refine x_callV0 (rest := []) C hI (tmT_readsText l N B _ _ r1 x1 hF) rfl cqX0_T_readsText0 ⟨Nat.le_of_ble_eq_true rfl, Nat.le_of_ble_eq_true rfl⟩ rfl hl.1 rfl (Nat.le_of_ble_eq_true rfl) dX0_text_21 (fun q hq H locs hI hfl => ?_) (fun v hv H locs hI => ?_)
      · cases r1 with
        | inr v1 => cases hq
        | inl q1 =>
          cases hq
          obtain ⟨ce, f1, f2, f3⟩ := hfl
          refine vx_catch (own := RX0) (name := "TwelveChain$Fault") (E := "TwelveChain$Fault") (ce := ce) hown [] ⟨10, 29, 36, 252⟩ [⟨10, 29, 62, 0⟩, ⟨36, 55, 62, 0⟩, ⟨62, 64, 62, 0⟩] (by rw [htab]; rfl) (fun z hz => by cases hz) (by decide) (by decide) (hts _ q441) (va_any rfl (C.2.2.2.2.2.1.2.2.2.1 _ (List.mem_of_getElem? (i := 4) rfl))) f1 f2 f3 ?_
          refine lv_astore_n (lv' := [(2, .ref q), (0, .ref (wa w 37)), (1, .int l1)]) hx hb dX0_text_36 rfl hl (by decide) rfl (fun ls hl => ?_)
          refine lv_aload_n hx hb dX0_text_37 rfl (lv_at hl 1 rfl) ?_
          refine lv_aload_n hx hb dX0_text_38 rfl (lv_at hl 0 rfl) ?_
          refine tgX0_386 C hI hf dX0_text_39 (fun v1 hf => ?_)
          refine tpX0_380 C hI dX0_text_42 (fun H locs hI => ?_)
          refine lv_aload_n hx hb dX0_text_45 rfl (lv_at hl 1 rfl) ?_
          refine lv_aload_n hx hb dX0_text_46 rfl (lv_at hl 0 rfl) ?_
          refine tgX0_389 C hI hf dX0_text_47 (fun v2 hf => ?_)
          refine tpX0_114 C hI dX0_text_50 (fun H locs hI => ?_)
          refine lv_iconst (v := (-1)) hx hb dX0_text_53 (by decide) ?_
          refine lv_istore_n (lv' := [(3, .int (-1)), (2, .ref q), (0, .ref (wa w 37)), (1, .int l1)]) hx hb dX0_text_54 rfl hl (by decide) rfl (fun ls hl => ?_)
          refine lv_aload_n hx hb dX0_text_55 rfl (lv_at hl 2 rfl) ?_
          refine lv_iconst (v := 0) hx hb dX0_text_56 (by decide) ?_
          refine tpX0_181 C hI dX0_text_57 (fun H locs hI => ?_)
          refine lv_iload_n hx hb dX0_text_60 rfl (lv_at hl 0 rfl) ?_
          exact t_iret C hI hf dX0_text_61
      · cases r1 with
        | inl q1 => cases hv
        | inr v1 =>
          cases hv
          refine lv_goto (tgt := 28) hx hb dX0_text_24 (by decide) ?_
          exact tail _ _ _ _ _ hI hl hf
  have k := goal _ hl
  rw [← hz, ← hsl] at k ⊢
  rw [Nat.sub_self, Nat.sub_self] at k
  exact k
