/-! a state as a base and a row of new cells: what the constructors do to it -/
set_option maxRecDepth 100000
def lst (x : TS) (q : Nat) (L : List DE) (y : Nat) : TS := sD x (fun j => if q ≤ j ∧ j < q + L.length then L[j - q]? else tD x j) (q + L.length) y
theorem lst_D {x : TS} {q i y : Nat} {L : List DE} {e : DE} (h : L[i]? = some e) : tD (lst x q L y) (q + i) = some e := by
  have hi : i < L.length := (List.getElem?_eq_some_iff.mp h).1
  show (if q ≤ q + i ∧ q + i < q + L.length then L[q + i - q]? else tD x (q + i)) = some e
  rw [if_pos (by omega), Nat.add_sub_cancel_left]
  exact h
theorem lst_set {x : TS} {q i y : Nat} {L : List DE} {e : DE} (h : i < L.length) : sTD (lst x q L y) (q + i) e = lst x q (L.set i e) y := by
  have e1 : (fun j => if j = q + i then some e else (if q ≤ j ∧ j < q + L.length then L[j - q]? else tD x j)) = (fun j => if q ≤ j ∧ j < q + (L.set i e).length then (L.set i e)[j - q]? else tD x j) := by
    funext j
    rw [List.length_set]
    by_cases c1 : j = q + i
    · subst c1
      rw [if_pos rfl, if_pos (by omega), Nat.add_sub_cancel_left, List.getElem?_set_self h]
    · rw [if_neg c1]
      by_cases c2 : q ≤ j ∧ j < q + L.length
      · rw [if_pos c2, if_pos c2, List.getElem?_set_ne (by omega)]
      · rw [if_neg c2, if_neg c2]
  show sD x (fun j => if j = q + i then some e else (if q ≤ j ∧ j < q + L.length then L[j - q]? else tD x j)) (q + L.length) y = lst x q (L.set i e) y
  rw [e1]
  unfold lst
  rw [List.length_set]
theorem lst_app {x : TS} {q y n : Nat} {L : List DE} {e : DE} : sTN (lst x q L y) n e = lst x q (L ++ [e]) (y + n) := by
  have e1 : (fun j => if j = q + L.length then some e else (if q ≤ j ∧ j < q + L.length then L[j - q]? else tD x j)) = (fun j => if q ≤ j ∧ j < q + (L ++ [e]).length then (L ++ [e])[j - q]? else tD x j) := by
    funext j
    rw [List.length_append, List.length_singleton]
    by_cases c1 : j = q + L.length
    · subst c1
      rw [if_pos rfl, if_pos (by omega), Nat.add_sub_cancel_left, List.getElem?_append_right (Nat.le_refl _), Nat.sub_self]
      rfl
    · rw [if_neg c1]
      by_cases c2 : q ≤ j ∧ j < q + L.length
      · rw [if_pos c2, if_pos (by omega), List.getElem?_append_left (by omega)]
      · rw [if_neg c2, if_neg (by omega)]
  show sD x (fun j => if j = q + L.length then some e else (if q ≤ j ∧ j < q + L.length then L[j - q]? else tD x j)) (q + L.length + 1) (y + n) = lst x q (L ++ [e]) (y + n)
  rw [e1]
  unfold lst
  rw [List.length_append, List.length_singleton, Nat.add_assoc]
theorem lst_dpt {x : TS} {q i y ci k : Nat} {L : List DE} {fs : List Value} {v : Value} (h : L[i]? = some (dO ci fs)) (hk : k < fs.length) : dpt (lst x q L y) (q + i) ci k v = some (lst x q (L.set i (dO ci (fs.set k v))) y) := by
  rw [dpt_eq (lst_D h) hk, lst_set (List.getElem?_eq_some_iff.mp h).1]
theorem lst_alc {x : TS} {B : Nat × Nat} {q y n len : Nat} {L : List DE} {e : DE} (hlen : L.length = len) (hB : q + len + 1 ≤ B.1 ∧ y + n ≤ B.2) : alc B (lst x q L y) n e = some (q + len, lst x q (L ++ [e]) (y + n)) := by
  subst hlen
  have h := alc_eq (B := B) (x := lst x q L y) (n := n) (e := e) hB
  rw [lst_app] at h
  exact h
theorem lst_nwR {x : TS} {B : Nat × Nat} {q y len code N : Nat} {n : Int32} {L : List DE} (hlen : L.length = len) (hn : ¬ (n < 0 ∨ 536870912 < n.toNatClampNeg * 4)) (hN : n.toNatClampNeg = N) (hB : q + len + 1 ≤ B.1 ∧ y + N ≤ B.2) : nwR B (lst x q L y) code n = some (q + len, lst x q (L ++ [dR code N (fun _ => none)]) (y + N)) := by
  subst hN
  unfold nwR
  rw [if_neg hn]
  exact lst_alc hlen hB
theorem lst_dRq {x : TS} {q i y code n a : Nat} {j : Int32} {L : List DE} {f : Nat → Option Nat} (h : L[i]? = some (dR code n f)) (hj : ¬ (j < 0 ∨ n ≤ j.toNatClampNeg)) : dRq (lst x q L y) (q + i) code j a = some (lst x q (L.set i (dR code n (va_up f j.toNatClampNeg (some a)))) y) := by
  unfold dRq
  rw [lst_D h]
  simp only []
  rw [if_pos ⟨trivial, hj⟩, lst_set (List.getElem?_eq_some_iff.mp h).1]
theorem lst_dRa {x : TS} {q i i2 y n n2 : Nat} {j : Int32} {L : List DE} {f f2 : Nat → Option Nat} (h2 : L[i2]? = some (dR 2 n2 f2)) (h : L[i]? = some (dR 3 n f)) (hj : ¬ (j < 0 ∨ n ≤ j.toNatClampNeg)) : dRa (lst x q L y) (q + i) j (q + i2) = some (lst x q (L.set i (dR 3 n (va_up f j.toNatClampNeg (some (q + i2))))) y) := by
  unfold dRa
  rw [lst_D h2]
  simp only []
  rw [if_pos trivial, lst_dRq h hj]
theorem lst_dgR {x : TS} {q i y ci k a : Nat} {L : List DE} {fs : List Value} (h : L[i]? = some (dO ci fs)) (hk : fs[k]? = some (.ref a)) : dgR (lst x q L y) (q + i) ci k = some (some a) := by
  unfold dgR
  rw [lst_D h]
  simp only []
  rw [if_pos trivial, hk]
