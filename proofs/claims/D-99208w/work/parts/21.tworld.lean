/-! THE WORLD OF THE SYSTEM: the main object, its arrays, its chains, and whatever else it makes (by address) -/
set_option maxRecDepth 100000
/-- a cell: an object (its kind, its fields), an int or byte array (code, length), an array of references, a lambda (site, what it holds) -/
abbrev DE : Type := (Nat × List Value) ⊕ ((Nat × Nat × (Nat → Int32)) ⊕ ((Nat × Nat × (Nat → Option Nat)) ⊕ (Nat × List Value)))
abbrev dO (c : Nat) (fs : List Value) : DE := .inl (c, fs)
abbrev dI (c n : Nat) (f : Nat → Int32) : DE := .inr (.inl (c, n, f))
abbrev dR (c n : Nat) (f : Nat → Option Nat) : DE := .inr (.inr (.inl (c, n, f)))
abbrev dL (s : Nat) (vs : List Value) : DE := .inr (.inr (.inr (s, vs)))
/-- the state: main's arrays, whole numbers, small kinds (which row of words, which token), references; the chains' arrays and numbers; who is ahead; all that was made; the heap's size and slots -/
def TS : Type := (Nat → Nat → Int32) × (Nat → Int32) × (Nat → Nat) × (Nat → Option Nat) × (Nat → Nat → Nat → Int32) × (Nat → Nat → Int32) × (Nat → Option Nat) × (Nat → Option DE) × Nat × Nat
def tA (x : TS) (k : Nat) : Nat → Int32 := x.1 k
def tS (x : TS) (k : Nat) : Int32 := x.2.1 k
def tW (x : TS) (k : Nat) : Nat := x.2.2.1 k
def tR (x : TS) (k : Nat) : Option Nat := x.2.2.2.1 k
def tC (x : TS) (j r : Nat) : Nat → Int32 := x.2.2.2.2.1 j r
def tF (x : TS) (j k : Nat) : Int32 := x.2.2.2.2.2.1 j k
def tH (x : TS) : Nat → Option Nat := x.2.2.2.2.2.2.1
def tD (x : TS) (q : Nat) : Option DE := x.2.2.2.2.2.2.2.1 q
def tZ (x : TS) : Nat := x.2.2.2.2.2.2.2.2.1
def tY (x : TS) : Nat := x.2.2.2.2.2.2.2.2.2
def sTA (x : TS) (k : Nat) (f : Nat → Int32) : TS := (fun j => if j = k then f else x.1 j, x.2)
def sTS (x : TS) (k : Nat) (v : Int32) : TS := (x.1, fun j => if j = k then v else x.2.1 j, x.2.2)
def sTW (x : TS) (k : Nat) (v : Nat) : TS := (x.1, x.2.1, fun j => if j = k then v else x.2.2.1 j, x.2.2.2)
def sTR (x : TS) (k : Nat) (v : Option Nat) : TS := (x.1, x.2.1, x.2.2.1, fun j => if j = k then v else x.2.2.2.1 j, x.2.2.2.2)
def sTC (x : TS) (j r : Nat) (f : Nat → Int32) : TS := (x.1, x.2.1, x.2.2.1, x.2.2.2.1, fun a b => if a = j ∧ b = r then f else x.2.2.2.2.1 a b, x.2.2.2.2.2)
def sTF (x : TS) (j k : Nat) (v : Int32) : TS := (x.1, x.2.1, x.2.2.1, x.2.2.2.1, x.2.2.2.2.1, fun a b => if a = j ∧ b = k then v else x.2.2.2.2.2.1 a b, x.2.2.2.2.2.2)
def sTH (x : TS) (f : Nat → Option Nat) : TS := (x.1, x.2.1, x.2.2.1, x.2.2.2.1, x.2.2.2.2.1, x.2.2.2.2.2.1, f, x.2.2.2.2.2.2.2)
def sTD (x : TS) (q : Nat) (e : DE) : TS := (x.1, x.2.1, x.2.2.1, x.2.2.2.1, x.2.2.2.2.1, x.2.2.2.2.2.1, x.2.2.2.2.2.2.1, fun j => if j = q then some e else x.2.2.2.2.2.2.2.1 j, x.2.2.2.2.2.2.2.2)
/-- a new cell: at the heap's end, within the bounds B -/
def sTN (x : TS) (n : Nat) (e : DE) : TS := (x.1, x.2.1, x.2.2.1, x.2.2.2.1, x.2.2.2.2.1, x.2.2.2.2.2.1, x.2.2.2.2.2.2.1, fun j => if j = tZ x then some e else x.2.2.2.2.2.2.2.1 j, tZ x + 1, tY x + n)
def alc (B : Nat × Nat) (x : TS) (n : Nat) (e : DE) : Option (Nat × TS) := if tZ x + 1 ≤ B.1 ∧ tY x + n ≤ B.2 then some (tZ x, sTN x n e) else none
/-- where all lies: the tables' numbers, the array types by code, the addresses, the String constants', the tokens', the lambdas' types, the chains' cells (5: the chain itself), how many chains there are -/
abbrev tO : Type := va_G × (Nat → ClassId) × (Nat → Nat) × kO × (Nat → Nat) × (Nat → ClassId) × (Nat → Nat → Nat) × Nat
abbrev wD (w : tO) : va_G := w.1
abbrev wc (w : tO) (k : Nat) : ClassId := w.2.1 k
abbrev wa (w : tO) (k : Nat) : Nat := w.2.2.1 k
abbrev wk (w : tO) : kO := w.2.2.2.1
abbrev wt (w : tO) (k : Nat) : Nat := w.2.2.2.2.1 k
abbrev wl (w : tO) (k : Nat) : ClassId := w.2.2.2.2.2.1 k
abbrev wG (w : tO) (j r : Nat) : Nat := w.2.2.2.2.2.2.1 j r
abbrev wn (w : tO) : Nat := w.2.2.2.2.2.2.2
def tkv (w : tO) (i : Nat) : Value := if i < 5 then .ref (wt w i) else .null
/-- the rows of words, by places of String constants: 0..3 the first words of the four texts, 4 asked, 5 joins, 6 none -/
def wrow (t : Nat) : List Nat := match t with
  | 0 => [0, 1, 2, 3]
  | 1 => [4, 5, 6, 7, 8]
  | 2 => [9, 10, 11]
  | 3 => [12, 9]
  | 4 => [9, 13, 14, 15, 16, 12, 17, 18, 19]
  | 5 => [20, 21, 22, 23]
  | _ => []
def isTA (k : Nat) : Bool := k == 0 || k == 17 || k == 25 || k == 28 || k == 29 || k == 30 || k == 31
def tcode (k : Nat) : Nat := if k = 0 then 1 else 0
def tlen (k : Nat) : Nat := if k = 0 then 400 else if k = 17 then 9 else if k = 25 then 600 else if k = 28 then 4096 else if k = 29 then 12 else if k = 30 then 12 else 600
def TF (w : tO) (x : TS) : List Value := [.ref (wa w 0), .int (tS x 1), .ref (wa w 2), .ref (wa w 44), .ref (wa w 45), .ref (wa w 46), .ref (wa w (40 + tW x 6)), .ref (wa w (40 + tW x 7)), .ref (wa w (40 + tW x 8)), tkv w (tW x 9), .int (tS x 10), .int (tS x 11), .int (tS x 12), .int (tS x 13), .int (tS x 14), .int (tS x 15), va_rf (tR x 16), .ref (wa w 17), va_rf (tR x 18), va_rf (tR x 19), va_rf (tR x 20), .int (tS x 21), .ref (wG w 0 5), .ref (wG w 1 5), .ref (wG w 2 5), .ref (wa w 25), .ref (wa w 26), .int (tS x 27), .ref (wa w 28), .ref (wa w 29), .ref (wa w 30), .ref (wa w 31), .int (tS x 32), va_rf (tR x 33), va_rf (tR x 34), va_rf (tR x 35), va_rf (tR x 36)]
def CF (w : tO) (x : TS) (j : Nat) : List Value := [.ref (wG w j 0), .ref (wG w j 1), .ref (wG w j 2), .ref (wG w j 3), .ref (wG w j 4), .int (tF x j 5), .int (tF x j 6), .int (tF x j 7), .int (tF x j 8), .int (tF x j 9), .int (tF x j 10), .int (tF x j 11), .int (tF x j 12), .ref (wa w 37)]
def TKf (w : tO) (x : TS) (j : Nat) : Option (Nat × DE) :=
  if j = 0 then some (wa w 37, dO 0 (TF w x))
  else if j = 3 then some (wa w 2, dR 3 4 (fun i => some (wa w (40 + i))))
  else if j = 27 then some (wa w 26, dR 8 6 (fun i => (tH x i).map (fun q => wG w q 5)))
  else if isTA (j - 1) = true then some (wa w (j - 1), dI (tcode (j - 1)) (tlen (j - 1)) (tA x (j - 1)))
  else if 40 ≤ j ∧ j < 47 then some (wa w j, dR 2 (wrow (j - 40)).length (fun i => ((wrow (j - 40))[i]?).map (wk w).1))
  else none
def TKc (w : tO) (x : TS) (i : Nat) : Option (Nat × DE) := if i / 6 < wn w then some (wG w (i / 6) (i % 6), if i % 6 = 5 then dO 1 (CF w x (i / 6)) else dI 0 12 (tC x (i / 6) (i % 6))) else none
def TK (w : tO) (x : TS) (k : Nat) : Option (Nat × DE) := if k < 100 then TKf w x k else if k < 1000 then TKc w x (k - 100) else (tD x (k - 1000)).map (fun e => (k - 1000, e))
def tAt (w : tO) (q : Nat × DE) (H : Heap) : Prop := match q.2 with
  | .inl o => va_at (wD w) clz (q.1, .inr o) H
  | .inr (.inl o) => va_at (wD w) clz (q.1, .inl (wc w o.1, o.2.1, .inl o.2.2)) H
  | .inr (.inr (.inl o)) => va_at (wD w) clz (q.1, .inl (wc w o.1, o.2.1, .inr (.inr (.inr (.inr o.2.2))))) H
  | .inr (.inr (.inr o)) => H[q.1]? = some ({ cls := wl w o.1, slots := o.2.toArray, vm := .none } : Cell)
theorem tAt.lt {w : tO} {q : Nat × DE} {H : Heap} (h : tAt w q H) : q.1 < H.size := by
  obtain ⟨a, e⟩ := q
  rcases e with o | o | o | o
  · exact va_at.lt (q := (a, .inr o)) h
  · exact va_at.lt (D := wD w) (cl := clz) (q := (a, .inl _)) h
  · exact va_at.lt (D := wD w) (cl := clz) (q := (a, .inl _)) h
  · exact (Array.getElem?_eq_some_iff.mp (show H[a]? = some _ from h)).1
theorem tAt.kept {w : tO} {q : Nat × DE} {H H1 : Heap} (h : tAt w q H) (hq : H1[q.1]? = H[q.1]?) : tAt w q H1 := by
  obtain ⟨a, e⟩ := q
  rcases e with o | o | o | o
  · exact va_at.kept (q := (a, .inr o)) h hq
  · exact va_at.kept (D := wD w) (cl := clz) (q := (a, .inl _)) h hq
  · exact va_at.kept (D := wD w) (cl := clz) (q := (a, .inl _)) h hq
  · exact (show H1[a]? = some _ from hq.trans h)
def kP (w : tO) (K : Nat → Option (Nat × DE)) (H : Heap) : Prop := ∀ (k : Nat) (q : Nat × DE), K k = some q → tAt w q H
def kD (A : Nat → Prop) (K : Nat → Option (Nat × DE)) : Prop := (∀ (i j : Nat) (p q : Nat × DE), K i = some p → K j = some q → p.1 = q.1 → i = j) ∧ ∀ (k : Nat) (q : Nat × DE), K k = some q → A q.1
def kU (K : Nat → Option (Nat × DE)) (k : Nat) (q : Nat × DE) : Nat → Option (Nat × DE) := fun j => if j = k then some q else K j
theorem kP.set {w : tO} {A : Nat → Prop} {K : Nat → Option (Nat × DE)} {k a : Nat} {e0 e : DE} {H H1 : Heap} (h : kP w K H) (hD : kD A K) (hk : K k = some (a, e0)) (he : tAt w (a, e) H1) (oq : ∀ q : Nat, q ≠ a → H1[q]? = H[q]?) : kP w (kU K k (a, e)) H1 := by
  intro j q hj
  unfold kU at hj
  by_cases e1 : j = k
  · rw [if_pos e1] at hj; cases hj; exact he
  · rw [if_neg e1] at hj
    exact (h j q hj).kept (oq q.1 fun z => e1 (hD.1 j k q (a, e0) hj hk z))
theorem kD.set {A : Nat → Prop} {K : Nat → Option (Nat × DE)} {k a : Nat} {e0 e : DE} (hD : kD A K) (hk : K k = some (a, e0)) : kD A (kU K k (a, e)) := by
  have key : ∀ (j : Nat) (q : Nat × DE), kU K k (a, e) j = some q → ∃ q0, K j = some q0 ∧ q0.1 = q.1 := by
    intro j q hj
    unfold kU at hj
    by_cases e1 : j = k
    · rw [if_pos e1] at hj; cases hj; subst e1; exact ⟨_, hk, rfl⟩
    · rw [if_neg e1] at hj; exact ⟨q, hj, rfl⟩
  refine ⟨fun i j p q hi hj hpq => ?_, fun j q hj => ?_⟩
  · obtain ⟨p0, h1, h2⟩ := key i p hi
    obtain ⟨q0, h3, h4⟩ := key j q hj
    exact hD.1 i j p0 q0 h1 h3 (by rw [h2, h4]; exact hpq)
  · obtain ⟨q0, h1, h2⟩ := key j q hj
    rw [← h2]; exact hD.2 j q0 h1
theorem kP.push {w : tO} {K : Nat → Option (Nat × DE)} {k a : Nat} {e : DE} {H H1 : Heap} (h : kP w K H) (ha : a = H.size) (he : tAt w (a, e) H1) (oq : ∀ q : Nat, q < H.size → H1[q]? = H[q]?) : kP w (kU K k (a, e)) H1 := by
  intro j q hj
  unfold kU at hj
  by_cases e1 : j = k
  · rw [if_pos e1] at hj; cases hj; exact he
  · rw [if_neg e1] at hj
    exact (h j q hj).kept (oq q.1 (h j q hj).lt)
theorem kD.push {w : tO} {A : Nat → Prop} {K : Nat → Option (Nat × DE)} {k a : Nat} {e : DE} {H : Heap} (hD : kD A K) (h : kP w K H) (ha : a = H.size) (hA : A a) : kD A (kU K k (a, e)) := by
  have key : ∀ (j : Nat) (q : Nat × DE), kU K k (a, e) j = some q → (j = k ∧ q.1 = a) ∨ (j ≠ k ∧ K j = some q ∧ q.1 < a) := by
    intro j q hj
    unfold kU at hj
    by_cases e1 : j = k
    · rw [if_pos e1] at hj; cases hj; exact Or.inl ⟨e1, rfl⟩
    · rw [if_neg e1] at hj; exact Or.inr ⟨e1, hj, by rw [ha]; exact (h j q hj).lt⟩
  refine ⟨fun i j p q hi hj hpq => ?_, fun j q hj => ?_⟩
  · rcases key i p hi with ⟨h1, h2⟩ | ⟨h1, h2, h3⟩ <;> rcases key j q hj with ⟨g1, g2⟩ | ⟨g1, g2, g3⟩
    · omega
    · omega
    · omega
    · exact hD.1 i j p q h2 g2 hpq
  · rcases key j q hj with ⟨h1, h2⟩ | ⟨h1, h2, h3⟩
    · rw [h2]; exact hA
    · exact hD.2 j q h2
/-! what a store makes of the whole -/
theorem TK_main {w : tO} {x x1 : TS} {e : DE} (he : e = dO 0 (TF w x1)) (h1 : tA x1 = tA x) (h2 : tC x1 = tC x) (h3 : tF x1 = tF x) (h4 : tH x1 = tH x) (h5 : tD x1 = tD x) : kU (TK w x) 0 (wa w 37, e) = TK w x1 := by
  funext j
  unfold kU
  by_cases hj : j = 0
  · subst hj; rw [if_pos rfl, he]; rfl
  · rw [if_neg hj]
    unfold TK TKf TKc CF
    rw [if_neg hj, if_neg hj, h1, h2, h3, h4, h5]
theorem TK_arr {w : tO} {x : TS} {k : Nat} {f : Nat → Int32} (hk : isTA k = true) (hk2 : k + 1 ≠ 3 ∧ k + 1 ≠ 27 ∧ k < 99) : kU (TK w x) (k + 1) (wa w k, dI (tcode k) (tlen k) f) = TK w (sTA x k f) := by
  funext j
  unfold kU
  by_cases hj : j = k + 1
  · subst hj
    rw [if_pos rfl]
    unfold TK TKf
    rw [if_pos (by omega), if_neg (by omega), if_neg hk2.1, if_neg hk2.2.1]
    simp only [Nat.add_sub_cancel]
    rw [if_pos hk]
    simp [tA, sTA]
  · rw [if_neg hj]
    unfold TK TKf
    by_cases h0 : j = 0
    · subst h0; rfl
    · have hne : ¬ (j - 1 = k) := by omega
      simp only [tA, sTA, if_neg hne]
      rfl
theorem TK_chain {w : tO} {x x1 : TS} {j r a : Nat} {e : DE} (hj : j < wn w) (hn : wn w ≤ 9) (hr : r < 6) (ha : a = wG w j r) (he : e = if r = 5 then dO 1 (CF w x1 j) else dI 0 12 (tC x1 j r)) (h1 : ∀ k, k < 100 → TKf w x1 k = TKf w x k) (h2 : ∀ j' r', r' < 6 → ¬ (j' = j ∧ r' = r) → (if r' = 5 then dO 1 (CF w x1 j') else dI 0 12 (tC x1 j' r')) = (if r' = 5 then dO 1 (CF w x j') else dI 0 12 (tC x j' r'))) (h5 : tD x1 = tD x) : kU (TK w x) (100 + (6 * j + r)) (a, e) = TK w x1 := by
  funext k
  unfold kU
  by_cases hk : k = 100 + (6 * j + r)
  · subst hk
    rw [if_pos rfl]
    unfold TK TKc
    rw [if_neg (by omega), if_pos (by omega), show 100 + (6 * j + r) - 100 = 6 * j + r by omega, show (6 * j + r) / 6 = j by omega, show (6 * j + r) % 6 = r by omega, if_pos hj, ha, he]
  · rw [if_neg hk]
    unfold TK
    by_cases c1 : k < 100
    · rw [if_pos c1, if_pos c1, h1 k c1]
    · rw [if_neg c1, if_neg c1]
      by_cases c2 : k < 1000
      · rw [if_pos c2, if_pos c2]
        unfold TKc
        rw [h2 ((k - 100) / 6) ((k - 100) % 6) (Nat.mod_lt _ (by decide)) (fun q => hk (by omega))]
      · rw [if_neg c2, if_neg c2, h5]
theorem TK_dyn {w : tO} {x : TS} {q : Nat} {e : DE} : kU (TK w x) (1000 + q) (q, e) = TK w (sTD x q e) := by
  funext k
  unfold kU
  by_cases hk : k = 1000 + q
  · subst hk
    rw [if_pos rfl]
    unfold TK
    rw [if_neg (by omega), if_neg (by omega), show 1000 + q - 1000 = q by omega]
    simp [tD, sTD]
  · rw [if_neg hk]
    unfold TK
    by_cases c1 : k < 100
    · rw [if_pos c1, if_pos c1]; rfl
    · rw [if_neg c1, if_neg c1]
      by_cases c2 : k < 1000
      · rw [if_pos c2, if_pos c2]; rfl
      · rw [if_neg c2, if_neg c2]
        have : k - 1000 ≠ q := by omega
        simp [tD, sTD, this]
theorem TK_new {w : tO} {x : TS} {n : Nat} {e : DE} : kU (TK w x) (1000 + tZ x) (tZ x, e) = TK w (sTN x n e) := by
  have h := TK_dyn (w := w) (x := x) (q := tZ x) (e := e)
  rw [h]
  funext k
  rfl
