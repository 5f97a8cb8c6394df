/-! rows of the bare world: Strings and rows of Strings laid into arrays -/
set_option maxRecDepth 100000
def dRq (x : TS) (q code : Nat) (i : Int32) (a : Nat) : Option TS := match tD x q with
  | some (.inr (.inr (.inl (c, n, f)))) => if c = code ∧ ¬ (i < 0 ∨ n ≤ i.toNatClampNeg) then some (sTD x q (dR code n (va_up f i.toNatClampNeg (some a)))) else none
  | _ => none
theorem dRq_some {x x1 : TS} {q code a : Nat} {i : Int32} (h : dRq x q code i a = some x1) : ∃ n f, tD x q = some (dR code n f) ∧ vp_in i n ∧ x1 = sTD x q (dR code n (va_up f i.toNatClampNeg (some a))) := by
  unfold dRq at h
  split at h
  · rename_i c n f he
    by_cases hc : c = code ∧ ¬ (i < 0 ∨ n ≤ i.toNatClampNeg)
    · rw [if_pos hc] at h
      obtain ⟨h1, h2⟩ := hc
      subst h1
      cases h
      exact ⟨n, f, he, h2, rfl⟩
    · rw [if_neg hc] at h; cases h
  · cases h
def dRa (x : TS) (q : Nat) (i : Int32) (a : Nat) : Option TS := match tD x a with
  | some (.inr (.inr (.inl (c, _, _)))) => if c = 2 then dRq x q 3 i a else none
  | _ => none
theorem dRa_some {x x1 : TS} {q a : Nat} {i : Int32} (h : dRa x q i a = some x1) : (∃ n f, tD x a = some (dR 2 n f)) ∧ dRq x q 3 i a = some x1 := by
  unfold dRa at h
  split at h
  · rename_i c n f he
    by_cases hc : c = 2
    · subst hc; rw [if_pos rfl] at h; exact ⟨⟨n, f, he⟩, h⟩
    · rw [if_neg hc] at h; cases h
  · cases h
theorem asg_self (vm : Vm) (c : ClassId) : vm.assignable c c = true := by
  unfold Vm.assignable
  rw [show (256 : Nat) = 255 + 1 from rfl, Vm.assignableAux, beq_self_eq_true, Bool.true_or]
section YB
variable {p : Program} {l : Launch} {e : Env} {R : Room} {s : State} {m : MethodId} {args : Array Value} {below : List Frame} {meth : Method} {c : Code} {H : Heap} {locs : List Loc} {Q : State → Prop}
variable {cc : ByteArray} {pc nL cells slots fr lo : Nat} {ls : Array Slot} {rest : List Value} {w : tO} {A : Nat → Prop} {B : Nat × Nat} {x : TS} {ret0 : Option FieldType} {own : String}
theorem y_astS {β : Type} {q j : Nat} {i : Int32} {f : TS → Option β} {r : β} (C : tCx w A p s m args meth c cc nL own ret0) (hI : yI w A B x s.heap H locs) (hj : j < 25) (hf : (dRq x q 2 i ((wk w).1 j)).bind f = some r) (hdg : decode cc pc = .ok (.aastore, 1))
    (kk : ∀ x1 H locs, yI w A B x1 s.heap H locs → f x1 = some r → W p l e R s m args below meth c H locs (tZ x1 - s.heap.size) (tY x1 - SL s.heap) Q (F0 m (pc + 1) ls rest)) : W p l e R s m args below meth c H locs cells slots Q (F0 m pc ls (.ref ((wk w).1 j) :: .int i :: .ref q :: rest)) := by
  obtain ⟨x1, hx1, hk1⟩ := b1_some hf
  obtain ⟨n, g, h1, h4, rfl⟩ := dRq_some hx1
  obtain ⟨cell, g1, g2, g3⟩ := vk_recv C.2.2.1.1 hj hI.2.2.1
  obtain ⟨kC, hkC, -⟩ := Vm.findClass_spec g3
  have hany : va_Any "java/lang/String" s H ((wk w).1 j) := ⟨cell, g1, g2, ⟨kC, hkC⟩, fun comp hc => by cases g3.symm.trans hc; exact asg_self _ _⟩
  refine x_rast (D := wD w) (E := "java/lang/String") C.1.1 C.1.2.1 (C.2.1.2 2 _ rfl).2 (hI.at (yK_d h1)) hany h4 hdg fun H1 jj g1 g2 => ?_
  have hI1 := yI.set (i := jj) (e := dR 2 n (va_up g i.toNatClampNeg (some ((wk w).1 j)))) hI (yK_d h1) g1 g2 yK_dyn rfl rfl
  exact y_tight hI1 (kk _ _ _ hI1 hk1)
theorem y_astA {β : Type} {q a : Nat} {i : Int32} {f : TS → Option β} {r : β} (C : tCx w A p s m args meth c cc nL own ret0) (hI : yI w A B x s.heap H locs) (hf : (dRa x q i a).bind f = some r) (hdg : decode cc pc = .ok (.aastore, 1))
    (kk : ∀ x1 H locs, yI w A B x1 s.heap H locs → f x1 = some r → W p l e R s m args below meth c H locs (tZ x1 - s.heap.size) (tY x1 - SL s.heap) Q (F0 m (pc + 1) ls rest)) : W p l e R s m args below meth c H locs cells slots Q (F0 m pc ls (.ref a :: .int i :: .ref q :: rest)) := by
  obtain ⟨x1, hx1, hk1⟩ := b1_some hf
  obtain ⟨⟨n2, g2, h2⟩, hx1⟩ := dRa_some hx1
  obtain ⟨n, g, h1, h4, rfl⟩ := dRq_some hx1
  obtain ⟨comp, cA, kA, hcomp, -, hkA, hkind, hname⟩ := C.2.2.2.2.2.2.2.2
  have hcA : cA = wc w 3 := Option.some.inj (hname.symm.trans (C.2.1.2 3 _ rfl).2)
  subst hcA
  obtain ⟨-, -, -, -, -, hc2⟩ := (C.2.1.2 2 _ rfl).2
  have hcomp2 : comp = wc w 2 := Option.some.inj (hcomp.symm.trans hc2)
  obtain ⟨kcomp, hkcomp, -⟩ := Vm.findClass_spec hcomp
  have hlt : i.toNatClampNeg < n := Nat.not_le.mp fun q => h4 (Or.inr q)
  have h0 : ¬ i < 0 := fun q => h4 (Or.inl q)
  have hatA : H[q]? = some (vp_cell (wc w 3) (n, .inr (.inr (.inr (.inr g))))) := hI.at (yK_d h1)
  have hatV : H[a]? = some (vp_cell (wc w 2) (n2, .inr (.inr (.inr (.inr g2))))) := hI.at (yK_d h2)
  refine W.aast C.1.1 C.1.2.1 hatA (fun q h => by cases h) (fun h => by cases h) hkA hkind rfl hkcomp ⟨h0, by show _ < (arrV _ _ _).slots.size; rw [arrV_size]; exact hlt⟩ hatV (fun q h => by cases h) (by rw [← hcomp2]; exact hkcomp) (by rw [hcomp2]; exact asg_self _ _) rfl rfl hdg fun H1 e z oq => ?_
  have hSL := SL_set hatA e (k2_slotsz _ _ _) z oq
  have hat1 : tAt w (q, dR 3 n (va_up g i.toNatClampNeg (some a))) H1 := by
    show H1[q]? = some (vp_cell _ _)
    rw [e]
    show some ((vp_cell (wc w 3) (n, .inr (.inr (.inr (.inr g))))).setSlot _ _) = _
    rw [vp_cell_q, vp_cell_q, arrV_store]
    congr 2
    funext k
    by_cases hq : k = i.toNatClampNeg
    · subst hq
      simp [updV, va_up, va_rf]
    · simp [updV, va_up, hq]
  have hI1 := yI.set (i := i.toNatClampNeg) (e := dR 3 n (va_up g i.toNatClampNeg (some a))) hI (yK_d h1) hat1 ⟨z, oq, hSL⟩ yK_dyn rfl rfl
  exact y_tight hI1 (kk _ _ _ hI1 hk1)
theorem y_newA {β : Type} {index : Nat} {n : Int32} {f : Nat → TS → Option β} {r : β} (C : tCx w A p s m args meth c cc nL own ret0) (hI : yI w A B x s.heap H locs) (hf : b2 (nwR B x 3 n) f = some r) (hclink : Cond.classLink own index "[Ljava/lang/String;" ∈ lw_all) (hdg : decode cc pc = .ok (.anewarray index, 3))
    (kk : ∀ q x1 H locs, yI w A B x1 s.heap H locs → f q x1 = some r → W p l e (tRm B fr lo s.heap.size (SL s.heap)) s m args below meth c H locs (tZ x1 - s.heap.size) (tY x1 - SL s.heap) Q (F0 m (pc + 3) ls (.ref q :: rest))) : W p l e (tRm B fr lo s.heap.size (SL s.heap)) s m args below meth c H locs (tZ x - s.heap.size) (tY x - SL s.heap) Q (F0 m pc ls (.int n :: rest)) := by
  unfold nwR at hf
  by_cases hneg : n < 0 ∨ 536870912 < n.toNatClampNeg * 4
  · rw [if_pos hneg] at hf; cases hf
  rw [if_neg hneg] at hf
  obtain ⟨q, x1, hx1, hk1⟩ := b2_some hf
  obtain ⟨hfit, rfl, rfl⟩ := alc_some hx1
  have h3 := hI.2.2.1.1
  have h4 := hI.2.2.2.1
  have hy := hI.2.2.2.2.2.2.1.2
  refine x_newA (D := wD w) C.1.1 C.1.2.1 C.1.2.2.2.1 (C.1.2.2.2.2.1 _ hclink) C.2.2.2.2.2.2.2.2 (C.2.1.2 3 _ rfl).2 (fun q => hneg (Or.inl q)) rfl (by omega) (show _ ≤ B.1 - _ by omega) (show _ ≤ B.2 - _ by omega) hdg fun H1 g1 g2 => ?_
  have hI1 := yI.new (e := dR 3 n.toNatClampNeg (fun _ => none)) hI g1 g2 hfit
  rw [h4]
  exact y_tight hI1 (kk _ _ _ _ hI1 hk1)
end YB
