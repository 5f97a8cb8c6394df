/-! CHAINS KEPT AHEAD: a new chain joins the world -/
set_option maxRecDepth 100000
/-- the world with other chains -/
abbrev tG (w : tO) (G : Nat → Nat → Nat) (n : Nat) : tO := (w.1, w.2.1, w.2.2.1, w.2.2.2.1, w.2.2.2.2.1, w.2.2.2.2.2.1, G, n)
def sD (x : TS) (D : Nat → Option DE) (z y : Nat) : TS := (x.1, x.2.1, x.2.2.1, x.2.2.2.1, x.2.2.2.2.1, x.2.2.2.2.2.1, x.2.2.2.2.2.2.1, D, z, y)
def dfC : List Value := [.null, .null, .null, .null, .null, .int 0, .int 0, .int 0, .int 0, .int 0, .int 0, .int 0, .int 0, .null]
def obC (q m : Nat) : List Value := [.ref (q + 1), .ref (q + 2), .ref (q + 3), .ref (q + 4), .ref (q + 5), .int 0, .int 0, .int 0, .int 0, .int 0, .int 0, .int 0, .int 0, .ref m]
theorem dpt_eq {x : TS} {q ci k : Nat} {fs : List Value} {v : Value} (h : tD x q = some (dO ci fs)) (hk : k < fs.length) : dpt x q ci k v = some (sTD x q (dO ci (fs.set k v))) := by
  unfold dpt; rw [h]; simp only []; rw [if_pos ⟨trivial, hk⟩]
theorem alc_eq {B : Nat × Nat} {x : TS} {n : Nat} {e : DE} (h : tZ x + 1 ≤ B.1 ∧ tY x + n ≤ B.2) : alc B x n e = some (tZ x, sTN x n e) := if_pos h
theorem tD_sTDn {x : TS} {q j : Nat} {e : DE} (h : j ≠ q) : tD (sTD x q e) j = tD x j := if_neg h
theorem tD_sTN0 {x : TS} {n : Nat} {e : DE} : tD (sTN x n e) (tZ x) = some e := if_pos rfl
theorem tD_sTNn {x : TS} {n j : Nat} {e : DE} (h : j ≠ tZ x) : tD (sTN x n e) j = tD x j := if_neg h
theorem tZ_sTD {x : TS} {q : Nat} {e : DE} : tZ (sTD x q e) = tZ x := rfl
theorem tY_sTD {x : TS} {q : Nat} {e : DE} : tY (sTD x q e) = tY x := rfl
theorem tZ_sTN {x : TS} {n : Nat} {e : DE} : tZ (sTN x n e) = tZ x + 1 := rfl
theorem tY_sTN {x : TS} {n : Nat} {e : DE} : tY (sTN x n e) = tY x + n := rfl
theorem ob_s {α β : Type} {a : α} {f : α → Option β} : (some a).bind f = f a := rfl
theorem b2_s {α β : Type} {a : α} {x : TS} {f : α → TS → Option β} : b2 (some (a, x)) f = f a x := rfl
def lkx (x z : TS) : Prop := z = sD x (tD z) (tZ z) (tY z)
theorem lkx_0 {x : TS} : lkx x x := rfl
theorem lkx_D {x z : TS} {q : Nat} {e : DE} (h : lkx x z) : lkx x (sTD z q e) := by
  have h2 : ∀ (D : Nat → Option DE) (a b : Nat), lkx x (sTD (sD x D a b) q e) := fun D a b => rfl
  have h3 := h2 (tD z) (tZ z) (tY z)
  rw [← show z = sD x (tD z) (tZ z) (tY z) from h] at h3
  exact h3
theorem lkx_N {x z : TS} {n : Nat} {e : DE} (h : lkx x z) : lkx x (sTN z n e) := by
  have h2 : ∀ (D : Nat → Option DE) (a b : Nat), lkx x (sTN (sD x D a b) n e) := fun D a b => rfl
  have h3 := h2 (tD z) (tZ z) (tY z)
  rw [← show z = sD x (tD z) (tZ z) (tY z) from h] at h3
  exact h3
theorem chain_made {N : Nat} {B : Nat × Nat} {x : TS} {m : Nat} (h : tZ x + 6 ≤ B.1 ∧ tY x + 74 ≤ B.2) : ∃ D, fC_init N B (sTN x 14 (dO 1 dfC)) (tZ x) m = some (sD x D (tZ x + 6) (tY x + 74)) ∧ D (tZ x) = some (dO 1 (obC (tZ x) m)) ∧ (∀ i, i < 5 → D (tZ x + 1 + i) = some (dI 0 12 (fun _ => 0))) ∧ ∀ j, ¬ (tZ x ≤ j ∧ j < tZ x + 6) → D j = tD x j := by
  obtain ⟨h1, h2⟩ := h
  generalize hq : tZ x = q
  generalize hy : tY x = y
  rw [hq] at h1
  rw [hy] at h2
  let x0 := sTN x 14 (dO 1 dfC)
  let x1 := sTD x0 q (dO 1 (dfC.set 13 (.ref m)))
  let x2 := sTN x1 12 (dI 0 12 (fun _ => 0))
  let x3 := sTD x2 q (dO 1 ((dfC.set 13 (.ref m)).set 0 (.ref (q + 1))))
  let x4 := sTN x3 12 (dI 0 12 (fun _ => 0))
  let x5 := sTD x4 q (dO 1 (((dfC.set 13 (.ref m)).set 0 (.ref (q + 1))).set 1 (.ref (q + 2))))
  let x6 := sTN x5 12 (dI 0 12 (fun _ => 0))
  let x7 := sTD x6 q (dO 1 ((((dfC.set 13 (.ref m)).set 0 (.ref (q + 1))).set 1 (.ref (q + 2))).set 2 (.ref (q + 3))))
  let x8 := sTN x7 12 (dI 0 12 (fun _ => 0))
  let x9 := sTD x8 q (dO 1 (((((dfC.set 13 (.ref m)).set 0 (.ref (q + 1))).set 1 (.ref (q + 2))).set 2 (.ref (q + 3))).set 3 (.ref (q + 4))))
  let x10 := sTN x9 12 (dI 0 12 (fun _ => 0))
  let x11 := sTD x10 q (dO 1 (obC q m))
  have z0 : tZ x0 = q + 1 := by rw [← hq]; rfl
  have y0 : tY x0 = y + 14 := by rw [← hy]; rfl
  have z2 : tZ x2 = q + 2 := by show tZ x0 + 1 = _; rw [z0]
  have z4 : tZ x4 = q + 3 := by show tZ x2 + 1 = _; rw [z2]
  have z6 : tZ x6 = q + 4 := by show tZ x4 + 1 = _; rw [z4]
  have z8 : tZ x8 = q + 5 := by show tZ x6 + 1 = _; rw [z6]
  have z10 : tZ x10 = q + 6 := by show tZ x8 + 1 = _; rw [z8]
  have y2 : tY x2 = y + 26 := by show tY x0 + 12 = _; rw [y0]
  have y4 : tY x4 = y + 38 := by show tY x2 + 12 = _; rw [y2]
  have y6 : tY x6 = y + 50 := by show tY x4 + 12 = _; rw [y4]
  have y8 : tY x8 = y + 62 := by show tY x6 + 12 = _; rw [y6]
  have y10 : tY x10 = y + 74 := by show tY x8 + 12 = _; rw [y8]
  have d0 : tD x0 q = some (dO 1 dfC) := by rw [← hq]; exact tD_sTN0
  have dN : ∀ (z : TS) (e : DE) (o : Option DE), q ≠ tZ z → tD z q = o → tD (sTN z 12 e) q = o := fun z e o hz ho => by rw [tD_sTNn hz]; exact ho
  have s1 : dpt x0 q 1 13 (.ref m) = some x1 := dpt_eq d0 (by decide)
  have a1 : alc B x1 12 (dI 0 12 (fun _ => 0)) = some (q + 1, x2) := by
    have := alc_eq (B := B) (x := x1) (n := 12) (e := dI 0 12 (fun _ => 0)) (by show tZ x0 + 1 ≤ _ ∧ tY x0 + 12 ≤ _; omega)
    rw [this, show tZ x1 = q + 1 from z0]
  have d2 : tD x2 q = some (dO 1 (dfC.set 13 (.ref m))) := dN _ _ _ (by show q ≠ tZ x0; omega) tD_sTD
  have s2 : dpt x2 q 1 0 (.ref (q + 1)) = some x3 := dpt_eq d2 (Nat.le_of_ble_eq_true rfl)
  have a2 : alc B x3 12 (dI 0 12 (fun _ => 0)) = some (q + 2, x4) := by
    have := alc_eq (B := B) (x := x3) (n := 12) (e := dI 0 12 (fun _ => 0)) (by show tZ x2 + 1 ≤ _ ∧ tY x2 + 12 ≤ _; omega)
    rw [this, show tZ x3 = q + 2 from z2]
  have d4 : tD x4 q = some (dO 1 ((dfC.set 13 (.ref m)).set 0 (.ref (q + 1)))) := dN _ _ _ (by show q ≠ tZ x2; omega) tD_sTD
  have s3 : dpt x4 q 1 1 (.ref (q + 2)) = some x5 := dpt_eq d4 (Nat.le_of_ble_eq_true rfl)
  have a3 : alc B x5 12 (dI 0 12 (fun _ => 0)) = some (q + 3, x6) := by
    have := alc_eq (B := B) (x := x5) (n := 12) (e := dI 0 12 (fun _ => 0)) (by show tZ x4 + 1 ≤ _ ∧ tY x4 + 12 ≤ _; omega)
    rw [this, show tZ x5 = q + 3 from z4]
  have d6 : tD x6 q = some (dO 1 (((dfC.set 13 (.ref m)).set 0 (.ref (q + 1))).set 1 (.ref (q + 2)))) := dN _ _ _ (by show q ≠ tZ x4; omega) tD_sTD
  have s4 : dpt x6 q 1 2 (.ref (q + 3)) = some x7 := dpt_eq d6 (Nat.le_of_ble_eq_true rfl)
  have a4 : alc B x7 12 (dI 0 12 (fun _ => 0)) = some (q + 4, x8) := by
    have := alc_eq (B := B) (x := x7) (n := 12) (e := dI 0 12 (fun _ => 0)) (by show tZ x6 + 1 ≤ _ ∧ tY x6 + 12 ≤ _; omega)
    rw [this, show tZ x7 = q + 4 from z6]
  have d8 : tD x8 q = some (dO 1 ((((dfC.set 13 (.ref m)).set 0 (.ref (q + 1))).set 1 (.ref (q + 2))).set 2 (.ref (q + 3)))) := dN _ _ _ (by show q ≠ tZ x6; omega) tD_sTD
  have s5 : dpt x8 q 1 3 (.ref (q + 4)) = some x9 := dpt_eq d8 (Nat.le_of_ble_eq_true rfl)
  have a5 : alc B x9 12 (dI 0 12 (fun _ => 0)) = some (q + 5, x10) := by
    have := alc_eq (B := B) (x := x9) (n := 12) (e := dI 0 12 (fun _ => 0)) (by show tZ x8 + 1 ≤ _ ∧ tY x8 + 12 ≤ _; omega)
    rw [this, show tZ x9 = q + 5 from z8]
  have d10 : tD x10 q = some (dO 1 (((((dfC.set 13 (.ref m)).set 0 (.ref (q + 1))).set 1 (.ref (q + 2))).set 2 (.ref (q + 3))).set 3 (.ref (q + 4)))) := dN _ _ _ (by show q ≠ tZ x8; omega) tD_sTD
  have s6 : dpt x10 q 1 4 (.ref (q + 5)) = some x11 := dpt_eq d10 (Nat.le_of_ble_eq_true rfl)
  refine ⟨tD x11, ?_, tD_sTD, ?_, ?_⟩
  · show fC_init N B x0 q m = _
    unfold fC_init
    rw [s1, ob_s, a1, b2_s, s2, ob_s, a2, b2_s, s3, ob_s, a3, b2_s, s4, ob_s, a4, b2_s, s5, ob_s, a5, b2_s, s6, ob_s]
    have k : lkx x x11 := lkx_D (lkx_N (lkx_D (lkx_N (lkx_D (lkx_N (lkx_D (lkx_N (lkx_D (lkx_N (lkx_D (lkx_N lkx_0)))))))))))
    have k2 : x11 = sD x (tD x11) (tZ x10) (tY x10) := k
    rw [z10, y10] at k2
    exact congrArg some k2
  · intro i hi
    have e11 : ∀ j, j ≠ q → tD x11 j = tD x10 j := fun j hj => tD_sTDn hj
    rcases (by omega : i = 0 ∨ i = 1 ∨ i = 2 ∨ i = 3 ∨ i = 4) with e | e | e | e | e <;> subst e
    · rw [tD_sTDn (by omega), tD_sTNn (by show _ ≠ tZ x8; omega), tD_sTDn (by omega), tD_sTNn (by show _ ≠ tZ x6; omega), tD_sTDn (by omega), tD_sTNn (by show _ ≠ tZ x4; omega), tD_sTDn (by omega), tD_sTNn (by show _ ≠ tZ x2; omega), tD_sTDn (by omega), show q + 1 + 0 = tZ x1 from z0.symm]
      exact tD_sTN0
    · rw [tD_sTDn (by omega), tD_sTNn (by show _ ≠ tZ x8; omega), tD_sTDn (by omega), tD_sTNn (by show _ ≠ tZ x6; omega), tD_sTDn (by omega), tD_sTNn (by show _ ≠ tZ x4; omega), tD_sTDn (by omega), show q + 1 + 1 = tZ x3 from z2.symm]
      exact tD_sTN0
    · rw [tD_sTDn (by omega), tD_sTNn (by show _ ≠ tZ x8; omega), tD_sTDn (by omega), tD_sTNn (by show _ ≠ tZ x6; omega), tD_sTDn (by omega), show q + 1 + 2 = tZ x5 from z4.symm]
      exact tD_sTN0
    · rw [tD_sTDn (by omega), tD_sTNn (by show _ ≠ tZ x8; omega), tD_sTDn (by omega), show q + 1 + 3 = tZ x7 from z6.symm]
      exact tD_sTN0
    · rw [tD_sTDn (by omega), show q + 1 + 4 = tZ x9 from z8.symm]
      exact tD_sTN0
  · intro j hj
    rw [tD_sTDn (by omega), tD_sTNn (by show _ ≠ tZ x8; omega), tD_sTDn (by omega), tD_sTNn (by show _ ≠ tZ x6; omega), tD_sTDn (by omega), tD_sTNn (by show _ ≠ tZ x4; omega), tD_sTDn (by omega), tD_sTNn (by show _ ≠ tZ x2; omega), tD_sTDn (by omega), tD_sTNn (by show _ ≠ tZ x0; omega), tD_sTDn (by omega), tD_sTNn (by omega)]
/-- a new chain, the n-th -/
def sNC (x : TS) (n : Nat) : TS := (x.1, x.2.1, x.2.2.1, x.2.2.2.1, fun a b => if a = n then (fun _ => 0) else x.2.2.2.2.1 a b, fun a b => if a = n then 0 else x.2.2.2.2.2.1 a b, x.2.2.2.2.2.2.1, x.2.2.2.2.2.2.2.1, tZ x + 6, tY x + 74)
def nwC (B : Nat × Nat) (n : Nat) (x : TS) : Option (Nat × TS) := if n < 9 ∧ tZ x + 6 ≤ B.1 ∧ tY x + 74 ≤ B.2 then some (n + 1, sNC x n) else none
def nG (w : tO) (z : Nat) : Nat → Nat → Nat := fun j r => if j = wn w then (if r = 5 then z else z + 1 + r) else wG w j r
theorem TKf_new {w : tO} {x : TS} {n : Nat} (hn : wn w = n) (h3 : 3 ≤ n) (hk : kH w x) : TKf (tG w (nG w (tZ x)) (n + 1)) (sNC x n) = TKf w x := by
  subst hn
  have g : ∀ j, j < wn w → ∀ r, nG w (tZ x) j r = wG w j r := fun j hj r => if_neg (by omega)
  have e1 : TF (tG w (nG w (tZ x)) (wn w + 1)) (sNC x (wn w)) = TF w x := by
    show [_, _, _, _, _, _, _, _, _, _, _, _, _, _, _, _, _, _, _, _, _, _, Value.ref (nG w (tZ x) 0 5), Value.ref (nG w (tZ x) 1 5), Value.ref (nG w (tZ x) 2 5), _, _, _, _, _, _, _, _, _, _, _, _] = _
    rw [g 0 (by omega), g 1 (by omega), g 2 (by omega)]
    rfl
  have e2 : (fun i => (tH (sNC x (wn w)) i).map (fun q => wG (tG w (nG w (tZ x)) (wn w + 1)) q 5)) = (fun i => (tH x i).map (fun q => wG w q 5)) := by
    funext i
    show (tH x i).map (fun q => nG w (tZ x) q 5) = _
    cases h : tH x i with
    | none => rfl
    | some j => exact congrArg some (g j (hk i j h) 5)
  funext k
  unfold TKf
  rw [e1, e2]
  rfl
theorem adopt {w : tO} {A : Nat → Prop} {B : Nat × Nat} {x : TS} {H0 H : Heap} {locs : List Loc} {n : Nat} {D : Nat → Option DE} (hn : wn w = n) (hn9 : n < 9) (hD0 : ∀ j, tZ x ≤ j → tD x j = none) (hI : tI w A B (sD x D (tZ x + 6) (tY x + 74)) H0 H locs) (h1 : D (tZ x) = some (dO 1 (obC (tZ x) (wa w 37)))) (h2 : ∀ i, i < 5 → D (tZ x + 1 + i) = some (dI 0 12 (fun _ => 0))) (h3 : ∀ j, ¬ (tZ x ≤ j ∧ j < tZ x + 6) → D j = tD x j) : tI (tG w (nG w (tZ x)) (n + 1)) A B (sNC x n) H0 H locs := by
  obtain ⟨i1, i2, i3, i4, i5, i6, i7, i8, ⟨i9, i10⟩, i11⟩ := hI
  have hk : kH w x := i10
  have hf := TKf_new (w := w) (x := x) hn (by omega) hk
  have key : ∀ k p, TK (tG w (nG w (tZ x)) (n + 1)) (sNC x n) k = some p → ∃ k6, TK w (sD x D (tZ x + 6) (tY x + 74)) k6 = some p ∧ (k6 = k ∨ ∃ r, r < 6 ∧ k = 100 + (6 * n + r) ∧ k6 = 1000 + (if r = 5 then tZ x else tZ x + 1 + r)) ∧ (1000 ≤ k → k < 1000 + tZ x) := by
    intro k p hp
    unfold TK at hp
    by_cases c1 : k < 100
    · rw [if_pos c1, hf] at hp
      exact ⟨k, by unfold TK; rw [if_pos c1]; exact hp, Or.inl rfl, by omega⟩
    · rw [if_neg c1] at hp
      by_cases c2 : k < 1000
      · rw [if_pos c2] at hp
        unfold TKc at hp
        by_cases c3 : (k - 100) / 6 < n + 1
        · rw [if_pos c3] at hp
          by_cases c4 : (k - 100) / 6 = n
          · have hr : (k - 100) % 6 < 6 := Nat.mod_lt _ (by decide)
            refine ⟨1000 + (if (k - 100) % 6 = 5 then tZ x else tZ x + 1 + (k - 100) % 6), ?_, Or.inr ⟨(k - 100) % 6, hr, by omega, rfl⟩, by omega⟩
            rw [← hp, c4]
            by_cases c5 : (k - 100) % 6 = 5
            · rw [if_pos c5, if_pos c5, c5]
              refine (TK_d (x := sD x D _ _) (q := tZ x) h1).trans ?_
              show some (tZ x, _) = some (nG w (tZ x) n 5, _)
              have : nG w (tZ x) n 5 = tZ x := by unfold nG; rw [if_pos hn.symm, if_pos rfl]
              rw [this]
              have e : CF (tG w (nG w (tZ x)) (n + 1)) (sNC x n) n = obC (tZ x) (wa w 37) := by
                have gr : ∀ r, r ≠ 5 → nG w (tZ x) n r = tZ x + 1 + r := fun r hr5 => by unfold nG; rw [if_pos hn.symm, if_neg hr5]
                show [Value.ref (nG w (tZ x) n 0), Value.ref (nG w (tZ x) n 1), Value.ref (nG w (tZ x) n 2), Value.ref (nG w (tZ x) n 3), Value.ref (nG w (tZ x) n 4), .int (if n = n then 0 else _), .int (if n = n then 0 else _), .int (if n = n then 0 else _), .int (if n = n then 0 else _), .int (if n = n then 0 else _), .int (if n = n then 0 else _), .int (if n = n then 0 else _), .int (if n = n then 0 else _), _] = _
                rw [gr 0 (by decide), gr 1 (by decide), gr 2 (by decide), gr 3 (by decide), gr 4 (by decide)]
                simp only [if_pos]
                rfl
              rw [e]
            · rw [if_neg c5, if_neg c5]
              refine (TK_d (x := sD x D _ _) (h2 _ (by omega))).trans ?_
              show some (_, _) = some (nG w (tZ x) n ((k - 100) % 6), dI 0 12 (if n = n then (fun _ => 0) else _))
              have : nG w (tZ x) n ((k - 100) % 6) = tZ x + 1 + (k - 100) % 6 := by unfold nG; rw [if_pos hn.symm, if_neg c5]
              rw [this, if_pos rfl]
          · refine ⟨k, ?_, Or.inl rfl, by omega⟩
            unfold TK
            rw [if_neg c1, if_pos c2]
            unfold TKc
            rw [if_pos (by omega), ← hp]
            generalize (k - 100) / 6 = j at *
            have gj : ∀ r, nG w (tZ x) j r = wG w j r := fun r => by unfold nG; rw [if_neg (by omega)]
            show _ = some (nG w (tZ x) j ((k - 100) % 6), _)
            rw [gj]
            by_cases c5 : (k - 100) % 6 = 5
            · rw [if_pos c5, if_pos c5]
              have e : CF (tG w (nG w (tZ x)) (n + 1)) (sNC x n) j = CF w x j := by
                show [Value.ref (nG w (tZ x) j 0), Value.ref (nG w (tZ x) j 1), Value.ref (nG w (tZ x) j 2), Value.ref (nG w (tZ x) j 3), Value.ref (nG w (tZ x) j 4), .int (if j = n then 0 else _), .int (if j = n then 0 else _), .int (if j = n then 0 else _), .int (if j = n then 0 else _), .int (if j = n then 0 else _), .int (if j = n then 0 else _), .int (if j = n then 0 else _), .int (if j = n then 0 else _), _] = _
                rw [gj, gj, gj, gj, gj]
                simp only [if_neg c4]
                rfl
              rw [e]
              rfl
            · rw [if_neg c5, if_neg c5]
              show some (_, dI 0 12 (tC x j _)) = some (_, dI 0 12 (if j = n then (fun _ => 0) else _))
              rw [if_neg c4]
              rfl
        · rw [if_neg c3] at hp; cases hp
      · rw [if_neg c2] at hp
        have hlt : k - 1000 < tZ x := by
          refine Nat.lt_of_not_le fun hge => ?_
          have : tD (sNC x n) (k - 1000) = none := hD0 _ hge
          rw [this] at hp
          cases hp
        refine ⟨k, ?_, Or.inl rfl, by omega⟩
        unfold TK
        rw [if_neg c1, if_neg c2, ← hp]
        have : tD (sD x D (tZ x + 6) (tY x + 74)) (k - 1000) = tD x (k - 1000) := h3 _ (by omega)
        rw [this]
        rfl
  refine ⟨fun k p hp => ?_, ⟨fun i j p q hp hq hpq => ?_, fun k p hp => ?_⟩, i3, i4, i5, i6, i7, i8, ⟨by show 3 ≤ n + 1; omega, fun i j h => Nat.lt_of_lt_of_le (hk i j h) (by show wn w ≤ n + 1; omega)⟩, by show n + 1 ≤ 9; omega⟩
  · obtain ⟨k6, a1, -⟩ := key k p hp
    exact i1 k6 p a1
  · obtain ⟨k6, a1, a2, a3⟩ := key i p hp
    obtain ⟨k7, b1, b2, b3⟩ := key j q hq
    have e := i2.1 k6 k7 p q a1 b1 hpq
    rcases a2 with a2 | ⟨r, r1, r2, r3⟩ <;> rcases b2 with b2 | ⟨r', s1, s2, s3⟩
    · omega
    · by_cases c : r' = 5
      · rw [if_pos c] at s3; omega
      · rw [if_neg c] at s3; omega
    · by_cases c : r = 5
      · rw [if_pos c] at r3; omega
      · rw [if_neg c] at r3; omega
    · by_cases c : r = 5 <;> by_cases c' : r' = 5
      · omega
      · rw [if_pos c] at r3; rw [if_neg c'] at s3; omega
      · rw [if_neg c] at r3; rw [if_pos c'] at s3; omega
      · rw [if_neg c] at r3; rw [if_neg c'] at s3; omega
  · obtain ⟨k6, a1, -⟩ := key k p hp
    exact i2.2 k6 p a1
