/-! the slots of a heap, counted -/
set_option maxRecDepth 100000
/-- all slots of a heap -/
def SL (H : Heap) : Nat := (H.toList.map (fun c => c.slots.size)).sum
theorem sum_eq : ∀ (l l2 : List Nat), l.length = l2.length → (∀ i : Nat, l[i]? = l2[i]?) → l.sum = l2.sum := fun l l2 _ h => by rw [List.ext_getElem? h]
theorem SL_same {H H1 : Heap} (hz : H1.size = H.size) (h : ∀ q : Nat, (H1[q]?).map (fun c => c.slots.size) = (H[q]?).map (fun c => c.slots.size)) : SL H1 = SL H := by
  unfold SL
  refine sum_eq _ _ (by simp [hz]) fun i => ?_
  have := h i
  simpa using this
theorem SL_set {H H1 : Heap} {a : Nat} {c c1 : Cell} (h0 : H[a]? = some c) (h1 : H1[a]? = some c1) (hc : c1.slots.size = c.slots.size) (hz : H1.size = H.size) (oq : ∀ q : Nat, q ≠ a → H1[q]? = H[q]?) : SL H1 = SL H := by
  refine SL_same hz fun q => ?_
  by_cases e : q = a
  · subst e; rw [h0, h1]; simp [hc]
  · rw [oq q e]
/-- what the machine must know to make a String[][] -/
def vaAA (U : State) : Prop := ∃ (comp c : ClassId) (k : Class), U.vm.findClass "[Ljava/lang/String;" = some comp ∧ (U.vm.classes.findIdx? fun (x : Class) => match x.kind with | .array component _ => component == comp | _ => false) = some c ∧ U.vm.classes[c]? = some k ∧ k.kind = .array comp (.array (.object "java/lang/String")) ∧ U.vm.findClass ("[" ++ (FieldType.array (.object "java/lang/String")).toString) = some c
theorem vaAA.of {A : Array Value} {U : State} (h : (Cond.arrayOver (.array (.object "java/lang/String"))).before A U = true) : vaAA U := by
  unfold Cond.before Cond.holds at h
  simp only [Cond.value, beq_iff_eq] at h
  cases hc : U.vm.findClass (FieldType.array (.object "java/lang/String")).toString with
  | none => simp [hc] at h
  | some comp =>
    simp only [hc, Option.bind_some, Option.bind_eq_some_iff, Option.map_eq_some_iff] at h
    obtain ⟨c, hi, k, hk, hb⟩ := h
    obtain ⟨hlt, hp, -⟩ := Array.findIdx?_eq_some_iff_getElem.mp hi
    have hkk : U.vm.classes[c] = k := (Array.getElem?_eq_some_iff.mp hk).2
    rw [hkk] at hp
    cases hkind : k.kind with
    | array component ty =>
      rw [hkind] at hb hp
      simp at hb hp
      exact ⟨comp, c, k, hc, hi, hk, by rw [hkind, hp, hb.1], hb.2⟩
    | _ => rw [hkind] at hb; simp at hb
theorem vaAA.moved {u U : State} (hvm : u.vm.Alike U.vm) (h : vaAA u) : vaAA U := by
  obtain ⟨comp, c, k, h1, h2, h3, h4, h5⟩ := h
  obtain ⟨k', hk', he⟩ := hvm.2.2 _ _ h3
  have hi : (U.vm.classes.findIdx? fun (x : Class) => match x.kind with | .array component _ => component == comp | _ => false) = some c := by
    rw [hvm.findIdx?_eqK _ (fun _ => rfl)]
    exact h2
  exact ⟨comp, c, k', by rw [hvm.findClass]; exact h1, hi, hk', by rw [he]; exact h4, by rw [hvm.findClass]; exact h5⟩
