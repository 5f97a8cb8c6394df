/-! LAMBDA SITES: what the tables say of a site that makes its object, and that it rides -/
set_option maxRecDepth 100000
def vaL (x : MethodName) (pc index : Nat) (σ : Lambda.Shape) (c : ClassId) (U : State) : Prop :=
  ∃ (m : MethodId) (k : Class) (cf : ClassFile) (i0 p0 : Nat), U.methodNamed? x = some m ∧ U.vm.classes[m.cls]? = some k ∧ k.cf = some cf ∧ Lambda.shapeOf? cf index = some σ ∧
    (k.callSites.find? fun y => y.1 == m.idx && y.2.1 == pc) = some (i0, p0, .makes c) ∧ Lambda.isMade { classPath := fun _ => none } U.vm m.cls σ c = true ∧ U.lambdaCallable σ c = true
theorem vaL.of {x : MethodName} {pc index : Nat} {σ : Lambda.Shape} {A : Array Value} {U : State} (h : (Cond.lambdaSite x pc index σ).before A U = true) (hc : σ.captured ≠ []) : ∃ c, vaL x pc index σ c U := by
  obtain ⟨c, one, hat⟩ := Cond.lambdaSite_spec h
  obtain ⟨m, k, cf, i0, p0, l, h1, h2, h3, h4, -, h6, h7, h8, h9⟩ := State.lambdaAt?_spec hat
  rcases h9 with ⟨a, cell, -, -, h, -⟩ | ⟨rfl, -, -⟩
  · exact absurd h hc
  · exact ⟨c, m, k, cf, i0, p0, h1, h2, h3, h4, h6, h7, h8⟩
theorem vaL.warm {x : MethodName} {pc index : Nat} {σ : Lambda.Shape} {c : ClassId} {s U : State} (hW : s.WarmedH U.vm) (h : vaL x pc index σ c s) : vaL x pc index σ c U := by
  obtain ⟨m, k, cf, i0, p0, h1, h2, h3, h4, h6, h7, h8⟩ := h
  have hA := hW.alike
  obtain ⟨k', hk', he⟩ := hA.2.2 _ _ h2
  have hm' : U.methodNamed? x = some m := by
    have := State.methodNamed?_setVm (s := s) hA x
    rw [h1] at this
    exact this
  refine ⟨m, k', cf, i0, p0, hm', hk', by rw [he]; exact h3, h4, by rw [he]; exact h6, Lambda.isMade_warmer hW h7, ?_⟩
  simp only [State.lambdaCallable, hA.findClass, hA.assignable, hA.superclasses, hA.declaredIn] at h8 ⊢
  exact h8
