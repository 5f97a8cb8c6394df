/-! AN ARRAY OF ARRAYS, and Strings laid into arrays (for the main object's constructor) -/
set_option maxRecDepth 100000
section YA
variable {p : Program} {l : Launch} {e : Env} {R : Room} {s : State} {m : MethodId} {args : Array Value} {below : List Frame} {meth : Method} {c : Code} {H : Heap} {locs : List Loc} {Q : State → Prop}
variable {cc : ByteArray} {pc nL cells slots fr lo : Nat} {ls : Array Slot} {rest : List Value} {w : tO} {A : Nat → Prop} {B : Nat × Nat} {x : TS} {ret0 : Option FieldType} {own : String}
theorem x_newA {index : Nat} {n : Int32} {N' : Nat} {cA0 : ClassId} {D : va_G} (hexec : p.tables.exec = Jvm.exec) (hb : c.code = cc) (hown : s.vm.findClass own = some m.cls) (hclink : (Cond.classLink own index "[Ljava/lang/String;").before args s = true) (hover : vaAA s) (hcl : s.vm.findClass ("[" ++ (FieldType.array (.object "java/lang/String")).toString) = some cA0) (hn : ¬ n < 0) (hN : n.toNatClampNeg = N') (hbytes : N' * 4 ≤ 536870912) (hcells : cells + 1 ≤ R.cells) (hslots : slots + N' ≤ R.slots) (hdg : decode cc pc = .ok (.anewarray index, 3))
    (kk : ∀ (H1 : Heap), va_at D clz (H.size, .inl (cA0, N', .inr (.inr (.inr (.inr (fun _ => none)))))) H1 → Grew H H1 N' → W p l e R s m args below meth c H1 locs (cells + 1) (slots + N') Q (F0 m (pc + 3) ls (.ref H.size :: rest))) : W p l e R s m args below meth c H locs cells slots Q (F0 m pc ls (.int n :: rest)) := by
  subst hN
  obtain ⟨comp, cA, kA, hcomp, hidx, hkA, hkindA, hnameA⟩ := hover
  have hcA : cA = cA0 := Option.some.inj (hnameA.symm.trans hcl)
  subst hcA
  intro T hT X
  have hpl : e.platform.magicAccessors = ({} : Platform).magicAccessors := by rw [X.admits.platform]
  obtain ⟨kComp, hkComp, -⟩ := Vm.findClass_spec hcomp
  obtain ⟨c9, hfcc, hcl9⟩ := Cond.classLink_spec hown hclink e.platform hpl
  cases hcomp.symm.trans hfcc
  obtain ⟨hg₁, hwarm₁, hready₁⟩ := State.classEntry (e := e) X.warmed hcl9
  generalize T.vm.noted m.cls index (.cls comp) = vm₁ at hg₁ hwarm₁ hready₁
  have hal : s.vm.Alike vm₁ := hwarm₁.alike
  obtain ⟨kComp₁, hkComp₁, -⟩ := hal.2.2 _ _ hkComp
  obtain ⟨kA₁, hkA₁, heA⟩ := hal.2.2 _ _ hkA
  have hkindA₁ : kA₁.kind = .array comp (.array (.object "java/lang/String")) := by rw [heA]; exact hkindA
  have hidx₁ : (vm₁.classes.findIdx? fun (x : Class) => match x.kind with | .array component _ => component == comp | _ => false) = some cA := by
    rw [hal.findIdx?_eqK _ (fun _ => rfl)]
    exact hidx
  have hlimit : ¬ n.toNatClampNeg > e.platform.arrayLengthLimit := by rw [Launch.admits_arrayLengthLimit X.admits]; omega
  have hheap : ¬ n.toNatClampNeg * componentBytes (.array (.object "java/lang/String")) > e.platform.maxHeapBytes := by
    rw [Launch.admits_maxHeapBytes X.admits]; show ¬ n.toNatClampNeg * 4 > 536870912; omega
  have X₁ := X.noted hwarm₁
  have X₂ := X₁.pushed { cls := cA, slots := Array.replicate n.toNatClampNeg .null, vm := .none }
  obtain ⟨hr1, hr2⟩ := X.roomAbove hcells hslots
  have X₃ : Stand p l e R s m args below meth c ((T.setVm vm₁).pushCell { cls := cA, slots := Array.replicate n.toNatClampNeg .null, vm := .none }) locs (cells + 1) (slots + n.toNatClampNeg) := by simpa using X₂
  generalize hH1 : H.push ({ cls := cA, slots := Array.replicate n.toNatClampNeg .null, vm := .none } : Cell) = H1 at *
  have z1 : H1.size = H.size + 1 := by rw [← hH1, Array.size_push]
  have e1 : H1[H.size]? = some (arrV cA n.toNatClampNeg (fun _ => .null)) := by rw [← hH1, Array.getElem?_push_size, ← arrV_new]
  have o1 : ∀ q : Nat, q < H.size → H1[q]? = H[q]? := fun q hq => by rw [← hH1, Array.getElem?_push, if_neg (Nat.ne_of_lt hq)]
  have hat : va_at D clz (H.size, .inl (cA, n.toNatClampNeg, .inr (.inr (.inr (.inr (fun _ => none)))))) H1 := by
    show H1[H.size]? = some (vp_cell _ _)
    rw [e1]
    rfl
  have hhp : ((T.setVm vm₁).pushCell { cls := cA, slots := Array.replicate n.toNatClampNeg .null, vm := .none }).heap = H1 := by
    rw [← hH1, ← hT]; rfl
  obtain ⟨t, b1, b2⟩ := kk H1 hat ⟨z1, o1, by rw [SL_new z1 e1 o1, arrV_size]⟩ _ hhp X₃
  refine ⟨t, ?_, b2⟩
  have hdg' : decode c.code pc = .ok (.anewarray index, 3) := by rw [hb]; exact hdg
  jvm_step X.here [hexec, hdg', anewarray.wp_cold (e := e) (s := T) (f := F0 m pc ls (.int n :: rest)) X.here.top hg₁ hready₁,
    anewarray.wp_ready (e := e) (s := T.setVm vm₁) (f := F0 m pc ls (.int n :: rest)) (kc := kComp₁) (k := kA₁) (type := .array (.object "java/lang/String")) X.here.top hready₁ hkComp₁ hidx₁ hkA₁ hkindA₁ rfl rfl hn hlimit hheap]
  refine ⟨by show T.heap.size < _; omega, by show T.slotsUsed + _ ≤ _; exact hr2, ?_⟩
  rw [← hT] at b1
  exact b1
end YA
