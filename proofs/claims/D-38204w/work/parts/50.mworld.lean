/-! THE MODEL's ESTATE, a world -/
set_option maxRecDepth 100000
section
variable {g : GT} {A B : Nat → Prop} {lv lv' : Nat → Nat → Prop} {ad ad' : Nat → Nat → Nat} {ct ct' : Nat → Nat → va_E} {H H1 : Heap}
/-- some cells are new or changed (D), the others stand -/
theorem tAt.chg (h : tAt g A lv ad ct H) (D : Nat → Nat → Prop) (hat : ∀ j i, lv' j i → D j i → mAt g (ad' j i) (ct' j i) H1 ∧ B (ad' j i)) (hs : ∀ j i, lv' j i → ¬ D j i → lv j i ∧ ad' j i = ad j i ∧ ct' j i = ct j i)
    (hk : ∀ j i, lv j i → ¬ D j i → H1[ad j i]? = H[ad j i]?) (hB : ∀ j i, lv j i → ¬ D j i → B (ad j i)) (hD : ∀ j i j' i', lv' j i → D j i → lv' j' i' → ad' j i = ad' j' i' → j = j' ∧ i = i') : tAt g B lv' ad' ct' H1 := by
  refine ⟨fun j i hl => ?_, fun j i j' i' hl hl' e => ?_⟩
  · by_cases hd : D j i
    · exact hat j i hl hd
    · obtain ⟨h0, h1, h2⟩ := hs j i hl hd
      rw [h1, h2]
      exact ⟨(h.1 j i h0).1.kept (hk j i h0 hd), hB j i h0 hd⟩
  · by_cases hd : D j i
    · exact hD j i j' i' hl hd hl' e
    · by_cases hd' : D j' i'
      · obtain ⟨a, b⟩ := hD j' i' j i hl' hd' hl e.symm
        exact ⟨a.symm, b.symm⟩
      · obtain ⟨h0, h1, _⟩ := hs j i hl hd
        obtain ⟨h0', h1', _⟩ := hs j' i' hl' hd'
        rw [h1, h1'] at e
        exact h.2 j i j' i' h0 h0' e
end
/-- the model's estate: ints (hour, -, mill, starts, idles, idledEver, stops, rate, water, order, -, lost, -, oil, money), sweets, arrays (stock, tonsToday, tonsEver, points), fields, trucks, loads, the lists of numbers (yard, today), how many in these (0, 1) and how many they can hold (2, 3) -/
structure MS where
  sc : Nat → Int32
  sw : Int64
  ar : Nat → Nat → Int32
  fd : Nat → Nat → Int32
  tr : Nat → Nat → Int32
  ld : Nat → Nat → Int32
  yt : Nat → Nat → Nat
  yn : Nat → Nat
def cnM (n yn : Nat → Nat) : Nat → Nat := fun k => match k with | 0 => n 0 | 1 => n 1 | 2 => n 2 | 3 => yn 0 | _ => yn 1
def cpM (la : LT) (yn : Nat → Nat) : Nat → Nat := fun k => match k with | 0 => la.2.1 0 | 1 => la.2.1 1 | 2 => la.2.1 2 | 3 => yn 2 | _ => yn 3
def mLv (la : LT) (n yn : Nat → Nat) : Nat → Nat → Prop := fun j i => match j with | 0 => i < 10 | 1 => i < 5 ∧ cpM la yn i ≠ 0 | 2 => i < n 0 | 3 => i < n 1 | 4 => i < n 2 | _ => False
abbrev eE (ad : Nat → Nat → Nat) (sc : Nat → Int32) (sw : Int64) : List Value := [.int (sc 0), .ref (ad 0 1), .ref (ad 0 3), .ref (ad 0 2), .ref (ad 0 4), .ref (ad 0 5), .int (sc 7), .int (sc 8), .int (sc 9), .int (sc 2), .int (sc 3), .int (sc 4), .int (sc 5), .int (sc 6), .ref (ad 0 6), .int (sc 13), .int (sc 14), .int (sc 11), .ref (ad 0 7), .ref (ad 0 8), .ref (ad 0 9), .long sw]
abbrev eM (o : Nat → Int32) : List Value := [.int (o 0), .int (o 1), .int (o 2), .int (o 3), .int (o 4), .int (o 5), .int (o 6), .int (o 7)]
def elM (g : GT) (ad : Nat → Nat → Nat) (yt : Nat → Nat → Nat) (c : Nat → Nat) (k : Nat) : Nat → Option Nat := fun j => if j < c k then some (match k with | 0 => ad 2 j | 1 => ad 3 j | 2 => ad 4 j | 3 => icA g (yt 0 j) | _ => icA g (yt 1 j)) else none
def eLs (la : LT) (n yn : Nat → Nat) (k : Nat) : va_E := .inr (2, [.int (la.2.2 k), .ref (la.1 1 k), .int (nI (cnM n yn k))])
def mCt (g : GT) (la : LT) (M : MS) (n : Nat → Nat) : Nat → Nat → va_E := fun j i => match j with
  | 0 => match i with
    | 0 => .inr (4, eE la.1 M.sc M.sw)
    | 1 => eLs la n M.yn 0
    | 2 => eLs la n M.yn 1
    | 3 => eLs la n M.yn 2
    | 4 => eLs la n M.yn 3
    | 5 => eLs la n M.yn 4
    | 6 => .inl (g.2.1 0, 8, .inl (M.ar 0))
    | 7 => .inl (g.2.1 0, 4, .inl (M.ar 1))
    | 8 => .inl (g.2.1 0, 4, .inl (M.ar 2))
    | _ => .inl (g.2.1 0, 4, .inl (M.ar 3))
  | 1 => .inl (g.2.1 2, cpM la M.yn i, rfs (elM g la.1 M.yt (cnM n M.yn) i))
  | 2 => .inr (6, eF (M.fd i))
  | 3 => .inr (8, eT (M.tr i))
  | _ => .inr (10, eM (M.ld i))
def mOk (g : GT) (la : LT) (n yn : Nat → Nat) : Prop := cOk g la n ∧ (yn 0 ≤ yn 2 ∧ yn 2 ≤ 145 ∧ (yn 2 = 0 → la.1 1 3 = g.2.2 1)) ∧ (yn 1 ≤ yn 3 ∧ yn 3 ≤ 145 ∧ (yn 3 = 0 → la.1 1 4 = g.2.2 1))
def mw (g : GT) (A : Nat → Prop) (la : LT) (M : MS) (n : Nat → Nat) (H : Heap) : Prop := tAt g A (mLv la n M.yn) la.1 (mCt g la M n) H ∧ mOk g la n M.yn
abbrev mF (la : LT) (n yn : Nat → Nat) : Nat → Prop := tF (mLv la n yn) la.1
section MW
variable {g : GT} {A B : Nat → Prop} {la : LT} {H H1 : Heap} {sc sc' : Nat → Int32} {sw sw' : Int64} {ar : Nat → Nat → Int32} {fd tr ld : Nat → Nat → Int32} {yt : Nat → Nat → Nat} {yn n : Nat → Nat} {i k a : Nat} {o : Nat → Int32} {M : MS}
theorem mw.w (h : mw g A la ⟨sc, sw, ar, fd, tr, ld, yt, yn⟩ n H) : mAt g (la.1 0 0) (.inr (4, eE la.1 sc sw)) H := h.1.at (j := 0) (i := 0) (by show 0 < 10; decide)
theorem mw.al0 (h : mw g A la ⟨sc, sw, ar, fd, tr, ld, yt, yn⟩ n H) : mAt g (la.1 0 1) (.inr (2, [.int (la.2.2 0), .ref (la.1 1 0), .int (nI (n 0))])) H := h.1.at (j := 0) (i := 1) (by show 1 < 10; decide)
theorem mw.al1 (h : mw g A la ⟨sc, sw, ar, fd, tr, ld, yt, yn⟩ n H) : mAt g (la.1 0 2) (.inr (2, [.int (la.2.2 1), .ref (la.1 1 1), .int (nI (n 1))])) H := h.1.at (j := 0) (i := 2) (by show 2 < 10; decide)
theorem mw.al2 (h : mw g A la ⟨sc, sw, ar, fd, tr, ld, yt, yn⟩ n H) : mAt g (la.1 0 3) (.inr (2, [.int (la.2.2 2), .ref (la.1 1 2), .int (nI (n 2))])) H := h.1.at (j := 0) (i := 3) (by show 3 < 10; decide)
theorem mw.al3 (h : mw g A la ⟨sc, sw, ar, fd, tr, ld, yt, yn⟩ n H) : mAt g (la.1 0 4) (.inr (2, [.int (la.2.2 3), .ref (la.1 1 3), .int (nI (yn 0))])) H := h.1.at (j := 0) (i := 4) (by show 4 < 10; decide)
theorem mw.al4 (h : mw g A la ⟨sc, sw, ar, fd, tr, ld, yt, yn⟩ n H) : mAt g (la.1 0 5) (.inr (2, [.int (la.2.2 4), .ref (la.1 1 4), .int (nI (yn 1))])) H := h.1.at (j := 0) (i := 5) (by show 5 < 10; decide)
theorem mw.ar0 (h : mw g A la ⟨sc, sw, ar, fd, tr, ld, yt, yn⟩ n H) : mAt g (la.1 0 6) (.inl (g.2.1 0, 8, .inl (ar 0))) H := h.1.at (j := 0) (i := 6) (by show 6 < 10; decide)
theorem mw.ar1 (h : mw g A la ⟨sc, sw, ar, fd, tr, ld, yt, yn⟩ n H) : mAt g (la.1 0 7) (.inl (g.2.1 0, 4, .inl (ar 1))) H := h.1.at (j := 0) (i := 7) (by show 7 < 10; decide)
theorem mw.ar2 (h : mw g A la ⟨sc, sw, ar, fd, tr, ld, yt, yn⟩ n H) : mAt g (la.1 0 8) (.inl (g.2.1 0, 4, .inl (ar 2))) H := h.1.at (j := 0) (i := 8) (by show 8 < 10; decide)
theorem mw.ar3 (h : mw g A la ⟨sc, sw, ar, fd, tr, ld, yt, yn⟩ n H) : mAt g (la.1 0 9) (.inl (g.2.1 0, 4, .inl (ar 3))) H := h.1.at (j := 0) (i := 9) (by show 9 < 10; decide)
theorem mw.ed0 (h : mw g A la ⟨sc, sw, ar, fd, tr, ld, yt, yn⟩ n H) (h0 : la.2.1 0 ≠ 0) : mAt g (la.1 1 0) (.inl (g.2.1 2, la.2.1 0, rfs (elM g la.1 yt (cnM n yn) 0))) H := h.1.at (j := 1) (i := 0) ⟨by decide, h0⟩
theorem mw.get0 (h : mw g A la ⟨sc, sw, ar, fd, tr, ld, yt, yn⟩ n H) (hi : i < n 0) : mAt g (la.1 1 0) (.inl (g.2.1 2, la.2.1 0, rfs (elM g la.1 yt (cnM n yn) 0))) H ∧ n 0 ≤ la.2.1 0 ∧ la.2.1 0 < 2 ^ 31 ∧ elM g la.1 yt (cnM n yn) 0 i = some (la.1 2 i) := by
  have h1 : n 0 ≤ la.2.1 0 ∧ la.2.1 0 < 2 ^ 31 := by obtain ⟨a, b, _, _⟩ := h.2.1 0 (by decide); exact ⟨a, by omega⟩
  exact ⟨h.ed0 (by omega), h1.1, h1.2, if_pos hi⟩
theorem mw.ed1 (h : mw g A la ⟨sc, sw, ar, fd, tr, ld, yt, yn⟩ n H) (h0 : la.2.1 1 ≠ 0) : mAt g (la.1 1 1) (.inl (g.2.1 2, la.2.1 1, rfs (elM g la.1 yt (cnM n yn) 1))) H := h.1.at (j := 1) (i := 1) ⟨by decide, h0⟩
theorem mw.get1 (h : mw g A la ⟨sc, sw, ar, fd, tr, ld, yt, yn⟩ n H) (hi : i < n 1) : mAt g (la.1 1 1) (.inl (g.2.1 2, la.2.1 1, rfs (elM g la.1 yt (cnM n yn) 1))) H ∧ n 1 ≤ la.2.1 1 ∧ la.2.1 1 < 2 ^ 31 ∧ elM g la.1 yt (cnM n yn) 1 i = some (la.1 3 i) := by
  have h1 : n 1 ≤ la.2.1 1 ∧ la.2.1 1 < 2 ^ 31 := by obtain ⟨a, b, _, _⟩ := h.2.1 1 (by decide); exact ⟨a, by omega⟩
  exact ⟨h.ed1 (by omega), h1.1, h1.2, if_pos hi⟩
theorem mw.ed2 (h : mw g A la ⟨sc, sw, ar, fd, tr, ld, yt, yn⟩ n H) (h0 : la.2.1 2 ≠ 0) : mAt g (la.1 1 2) (.inl (g.2.1 2, la.2.1 2, rfs (elM g la.1 yt (cnM n yn) 2))) H := h.1.at (j := 1) (i := 2) ⟨by decide, h0⟩
theorem mw.get2 (h : mw g A la ⟨sc, sw, ar, fd, tr, ld, yt, yn⟩ n H) (hi : i < n 2) : mAt g (la.1 1 2) (.inl (g.2.1 2, la.2.1 2, rfs (elM g la.1 yt (cnM n yn) 2))) H ∧ n 2 ≤ la.2.1 2 ∧ la.2.1 2 < 2 ^ 31 ∧ elM g la.1 yt (cnM n yn) 2 i = some (la.1 4 i) := by
  have h1 : n 2 ≤ la.2.1 2 ∧ la.2.1 2 < 2 ^ 31 := by obtain ⟨a, b, _, _⟩ := h.2.1 2 (by decide); exact ⟨a, by omega⟩
  exact ⟨h.ed2 (by omega), h1.1, h1.2, if_pos hi⟩
theorem mw.ed3 (h : mw g A la ⟨sc, sw, ar, fd, tr, ld, yt, yn⟩ n H) (h0 : yn 2 ≠ 0) : mAt g (la.1 1 3) (.inl (g.2.1 2, yn 2, rfs (elM g la.1 yt (cnM n yn) 3))) H := h.1.at (j := 1) (i := 3) ⟨by decide, h0⟩
theorem mw.get3 (h : mw g A la ⟨sc, sw, ar, fd, tr, ld, yt, yn⟩ n H) (hi : i < yn 0) : mAt g (la.1 1 3) (.inl (g.2.1 2, yn 2, rfs (elM g la.1 yt (cnM n yn) 3))) H ∧ yn 0 ≤ yn 2 ∧ yn 2 < 2 ^ 31 ∧ elM g la.1 yt (cnM n yn) 3 i = some (icA g (yt 0 i)) := by
  have h1 : yn 0 ≤ yn 2 ∧ yn 2 < 2 ^ 31 := by have h9 := h.2.2.1; omega
  exact ⟨h.ed3 (by omega), h1.1, h1.2, if_pos hi⟩
theorem mw.ed4 (h : mw g A la ⟨sc, sw, ar, fd, tr, ld, yt, yn⟩ n H) (h0 : yn 3 ≠ 0) : mAt g (la.1 1 4) (.inl (g.2.1 2, yn 3, rfs (elM g la.1 yt (cnM n yn) 4))) H := h.1.at (j := 1) (i := 4) ⟨by decide, h0⟩
theorem mw.get4 (h : mw g A la ⟨sc, sw, ar, fd, tr, ld, yt, yn⟩ n H) (hi : i < yn 1) : mAt g (la.1 1 4) (.inl (g.2.1 2, yn 3, rfs (elM g la.1 yt (cnM n yn) 4))) H ∧ yn 1 ≤ yn 3 ∧ yn 3 < 2 ^ 31 ∧ elM g la.1 yt (cnM n yn) 4 i = some (icA g (yt 1 i)) := by
  have h1 : yn 1 ≤ yn 3 ∧ yn 3 < 2 ^ 31 := by have h9 := h.2.2.2; omega
  exact ⟨h.ed4 (by omega), h1.1, h1.2, if_pos hi⟩
theorem mw.f (h : mw g A la ⟨sc, sw, ar, fd, tr, ld, yt, yn⟩ n H) (hi : i < n 0) : mAt g (la.1 2 i) (.inr (6, eF (fd i))) H := h.1.at (j := 2) (i := i) hi
theorem mw.fS (h : mw g A la ⟨sc, sw, ar, va_up fd i o, tr, ld, yt, yn⟩ n H) (hi : i < n 0) : mAt g (la.1 2 i) (.inr (6, eF o)) H := by have h9 := h.f hi; rw [va_up_self] at h9; exact h9
theorem mw.t (h : mw g A la ⟨sc, sw, ar, fd, tr, ld, yt, yn⟩ n H) (hi : i < n 1) : mAt g (la.1 3 i) (.inr (8, eT (tr i))) H := h.1.at (j := 3) (i := i) hi
theorem mw.tS (h : mw g A la ⟨sc, sw, ar, fd, va_up tr i o, ld, yt, yn⟩ n H) (hi : i < n 1) : mAt g (la.1 3 i) (.inr (8, eT o)) H := by have h9 := h.t hi; rw [va_up_self] at h9; exact h9
theorem mw.l (h : mw g A la ⟨sc, sw, ar, fd, tr, ld, yt, yn⟩ n H) (hi : i < n 2) : mAt g (la.1 4 i) (.inr (10, eM (ld i))) H := h.1.at (j := 4) (i := i) hi
theorem mw.lS (h : mw g A la ⟨sc, sw, ar, fd, tr, va_up ld i o, yt, yn⟩ n H) (hi : i < n 2) : mAt g (la.1 4 i) (.inr (10, eM o)) H := by have h9 := h.l hi; rw [va_up_self] at h9; exact h9
theorem mw.inW (h : mw g A la M n H) (hi : i < 10) : A (la.1 0 i) := h.1.inA (j := 0) hi
theorem mw.inF (h : mw g A la M n H) (hi : i < n 0) : A (la.1 2 i) := h.1.inA (j := 2) hi
theorem mw.inT (h : mw g A la M n H) (hi : i < n 1) : A (la.1 3 i) := h.1.inA (j := 3) hi
theorem mw.inL (h : mw g A la M n H) (hi : i < n 2) : A (la.1 4 i) := h.1.inA (j := 4) hi
theorem mw.weaken (h : mw g A la M n H) (hAB : ∀ q, A q → B q) : mw g B la M n H := ⟨h.1.weaken hAB, h.2⟩
theorem mw.self (h : mw g A la M n H) (sz : Nat) : mw g (fA (mF la n M.yn) sz) la M n H := ⟨h.1.self sz, h.2⟩
theorem mw.kept (h : mw g A la M n H) (hq : ∀ q, q < H.size → mF la n M.yn q → H1[q]? = H[q]?) : mw g A la M n H1 := ⟨h.1.kept hq, h.2⟩
theorem mw.back (h : mw g A la M n H) (hAs : ∀ q, H.size ≤ q → A q) : ∀ q, fA (mF la n M.yn) H.size q → A q := fun q hq => hq.elim (h.1.ft q) (hAs q)
theorem mw.setW (h : mw g A la ⟨sc, sw, ar, fd, tr, ld, yt, yn⟩ n H) (hat : mAt g (la.1 0 0) (.inr (4, eE la.1 sc' sw')) H1) (hoq : ∀ q, q < H.size → q ≠ la.1 0 0 → H1[q]? = H[q]?) : mw g A la ⟨sc', sw', ar, fd, tr, ld, yt, yn⟩ n H1 := by
  refine ⟨h.1.put 0 0 (by show 0 < 10; decide) hat hoq (fun j i' hl hn => ?_), h.2⟩
  match j, i', hl, hn with
  | 0, 0, hl, hn => exact absurd ⟨rfl, rfl⟩ hn
  | 0, 1, hl, hn => rfl
  | 0, 2, hl, hn => rfl
  | 0, 3, hl, hn => rfl
  | 0, 4, hl, hn => rfl
  | 0, 5, hl, hn => rfl
  | 0, 6, hl, hn => rfl
  | 0, 7, hl, hn => rfl
  | 0, 8, hl, hn => rfl
  | 0, 9, hl, hn => rfl
  | 0, q + 10, hl, hn => exact absurd hl (by show ¬ q + 10 < 10; omega)
  | 1, i', hl, hn => rfl
  | 2, i', hl, hn => rfl
  | 3, i', hl, hn => rfl
  | 4, i', hl, hn => rfl
  | j + 5, i', hl, hn => exact absurd hl (fun z => z)
theorem mw.setA0 {f : Nat → Int32} (h : mw g A la ⟨sc, sw, ar, fd, tr, ld, yt, yn⟩ n H) (hat : mAt g (la.1 0 6) (.inl (g.2.1 0, 8, .inl f)) H1) (hoq : ∀ q, q < H.size → q ≠ la.1 0 6 → H1[q]? = H[q]?) : mw g A la ⟨sc, sw, va_up ar 0 f, fd, tr, ld, yt, yn⟩ n H1 := by
  refine ⟨h.1.put 0 6 (by show 6 < 10; decide) hat hoq (fun j i' hl hn => ?_), h.2⟩
  match j, i', hl, hn with
  | 0, 0, hl, hn => rfl
  | 0, 1, hl, hn => rfl
  | 0, 2, hl, hn => rfl
  | 0, 3, hl, hn => rfl
  | 0, 4, hl, hn => rfl
  | 0, 5, hl, hn => rfl
  | 0, 6, hl, hn => exact absurd ⟨rfl, rfl⟩ hn
  | 0, 7, hl, hn => rfl
  | 0, 8, hl, hn => rfl
  | 0, 9, hl, hn => rfl
  | 0, q + 10, hl, hn => exact absurd hl (by show ¬ q + 10 < 10; omega)
  | 1, i', hl, hn => rfl
  | 2, i', hl, hn => rfl
  | 3, i', hl, hn => rfl
  | 4, i', hl, hn => rfl
  | j + 5, i', hl, hn => exact absurd hl (fun z => z)
theorem mw.setA20 {f f2 : Nat → Int32} (h : mw g A la ⟨sc, sw, va_up ar 0 f2, fd, tr, ld, yt, yn⟩ n H) (hat : mAt g (la.1 0 6) (.inl (g.2.1 0, 8, .inl f)) H1) (hoq : ∀ q, q < H.size → q ≠ la.1 0 6 → H1[q]? = H[q]?) : mw g A la ⟨sc, sw, va_up ar 0 f, fd, tr, ld, yt, yn⟩ n H1 := by
  have h9 := h.setA0 hat hoq
  rw [up_up] at h9
  exact h9
theorem mw.setA1 {f : Nat → Int32} (h : mw g A la ⟨sc, sw, ar, fd, tr, ld, yt, yn⟩ n H) (hat : mAt g (la.1 0 7) (.inl (g.2.1 0, 4, .inl f)) H1) (hoq : ∀ q, q < H.size → q ≠ la.1 0 7 → H1[q]? = H[q]?) : mw g A la ⟨sc, sw, va_up ar 1 f, fd, tr, ld, yt, yn⟩ n H1 := by
  refine ⟨h.1.put 0 7 (by show 7 < 10; decide) hat hoq (fun j i' hl hn => ?_), h.2⟩
  match j, i', hl, hn with
  | 0, 0, hl, hn => rfl
  | 0, 1, hl, hn => rfl
  | 0, 2, hl, hn => rfl
  | 0, 3, hl, hn => rfl
  | 0, 4, hl, hn => rfl
  | 0, 5, hl, hn => rfl
  | 0, 6, hl, hn => rfl
  | 0, 7, hl, hn => exact absurd ⟨rfl, rfl⟩ hn
  | 0, 8, hl, hn => rfl
  | 0, 9, hl, hn => rfl
  | 0, q + 10, hl, hn => exact absurd hl (by show ¬ q + 10 < 10; omega)
  | 1, i', hl, hn => rfl
  | 2, i', hl, hn => rfl
  | 3, i', hl, hn => rfl
  | 4, i', hl, hn => rfl
  | j + 5, i', hl, hn => exact absurd hl (fun z => z)
theorem mw.setA21 {f f2 : Nat → Int32} (h : mw g A la ⟨sc, sw, va_up ar 1 f2, fd, tr, ld, yt, yn⟩ n H) (hat : mAt g (la.1 0 7) (.inl (g.2.1 0, 4, .inl f)) H1) (hoq : ∀ q, q < H.size → q ≠ la.1 0 7 → H1[q]? = H[q]?) : mw g A la ⟨sc, sw, va_up ar 1 f, fd, tr, ld, yt, yn⟩ n H1 := by
  have h9 := h.setA1 hat hoq
  rw [up_up] at h9
  exact h9
theorem mw.setA2 {f : Nat → Int32} (h : mw g A la ⟨sc, sw, ar, fd, tr, ld, yt, yn⟩ n H) (hat : mAt g (la.1 0 8) (.inl (g.2.1 0, 4, .inl f)) H1) (hoq : ∀ q, q < H.size → q ≠ la.1 0 8 → H1[q]? = H[q]?) : mw g A la ⟨sc, sw, va_up ar 2 f, fd, tr, ld, yt, yn⟩ n H1 := by
  refine ⟨h.1.put 0 8 (by show 8 < 10; decide) hat hoq (fun j i' hl hn => ?_), h.2⟩
  match j, i', hl, hn with
  | 0, 0, hl, hn => rfl
  | 0, 1, hl, hn => rfl
  | 0, 2, hl, hn => rfl
  | 0, 3, hl, hn => rfl
  | 0, 4, hl, hn => rfl
  | 0, 5, hl, hn => rfl
  | 0, 6, hl, hn => rfl
  | 0, 7, hl, hn => rfl
  | 0, 8, hl, hn => exact absurd ⟨rfl, rfl⟩ hn
  | 0, 9, hl, hn => rfl
  | 0, q + 10, hl, hn => exact absurd hl (by show ¬ q + 10 < 10; omega)
  | 1, i', hl, hn => rfl
  | 2, i', hl, hn => rfl
  | 3, i', hl, hn => rfl
  | 4, i', hl, hn => rfl
  | j + 5, i', hl, hn => exact absurd hl (fun z => z)
theorem mw.setA22 {f f2 : Nat → Int32} (h : mw g A la ⟨sc, sw, va_up ar 2 f2, fd, tr, ld, yt, yn⟩ n H) (hat : mAt g (la.1 0 8) (.inl (g.2.1 0, 4, .inl f)) H1) (hoq : ∀ q, q < H.size → q ≠ la.1 0 8 → H1[q]? = H[q]?) : mw g A la ⟨sc, sw, va_up ar 2 f, fd, tr, ld, yt, yn⟩ n H1 := by
  have h9 := h.setA2 hat hoq
  rw [up_up] at h9
  exact h9
theorem mw.setA3 {f : Nat → Int32} (h : mw g A la ⟨sc, sw, ar, fd, tr, ld, yt, yn⟩ n H) (hat : mAt g (la.1 0 9) (.inl (g.2.1 0, 4, .inl f)) H1) (hoq : ∀ q, q < H.size → q ≠ la.1 0 9 → H1[q]? = H[q]?) : mw g A la ⟨sc, sw, va_up ar 3 f, fd, tr, ld, yt, yn⟩ n H1 := by
  refine ⟨h.1.put 0 9 (by show 9 < 10; decide) hat hoq (fun j i' hl hn => ?_), h.2⟩
  match j, i', hl, hn with
  | 0, 0, hl, hn => rfl
  | 0, 1, hl, hn => rfl
  | 0, 2, hl, hn => rfl
  | 0, 3, hl, hn => rfl
  | 0, 4, hl, hn => rfl
  | 0, 5, hl, hn => rfl
  | 0, 6, hl, hn => rfl
  | 0, 7, hl, hn => rfl
  | 0, 8, hl, hn => rfl
  | 0, 9, hl, hn => exact absurd ⟨rfl, rfl⟩ hn
  | 0, q + 10, hl, hn => exact absurd hl (by show ¬ q + 10 < 10; omega)
  | 1, i', hl, hn => rfl
  | 2, i', hl, hn => rfl
  | 3, i', hl, hn => rfl
  | 4, i', hl, hn => rfl
  | j + 5, i', hl, hn => exact absurd hl (fun z => z)
theorem mw.setA23 {f f2 : Nat → Int32} (h : mw g A la ⟨sc, sw, va_up ar 3 f2, fd, tr, ld, yt, yn⟩ n H) (hat : mAt g (la.1 0 9) (.inl (g.2.1 0, 4, .inl f)) H1) (hoq : ∀ q, q < H.size → q ≠ la.1 0 9 → H1[q]? = H[q]?) : mw g A la ⟨sc, sw, va_up ar 3 f, fd, tr, ld, yt, yn⟩ n H1 := by
  have h9 := h.setA3 hat hoq
  rw [up_up] at h9
  exact h9
theorem mw.setF (h : mw g A la ⟨sc, sw, ar, fd, tr, ld, yt, yn⟩ n H) (hi : i < n 0) (hat : mAt g (la.1 2 i) (.inr (6, eF o)) H1) (hoq : ∀ q, q < H.size → q ≠ la.1 2 i → H1[q]? = H[q]?) : mw g A la ⟨sc, sw, ar, va_up fd i o, tr, ld, yt, yn⟩ n H1 := by
  refine ⟨h.1.put 2 i hi (by show mAt g _ (.inr (6, eF (va_up fd i o i))) H1; rw [va_up_self]; exact hat) hoq (fun j i' hl hn => ?_), h.2⟩
  match j, i', hl, hn with
  | 0, 0, hl, hn => rfl
  | 0, 1, hl, hn => rfl
  | 0, 2, hl, hn => rfl
  | 0, 3, hl, hn => rfl
  | 0, 4, hl, hn => rfl
  | 0, 5, hl, hn => rfl
  | 0, 6, hl, hn => rfl
  | 0, 7, hl, hn => rfl
  | 0, 8, hl, hn => rfl
  | 0, 9, hl, hn => rfl
  | 0, q + 10, hl, hn => exact absurd hl (by show ¬ q + 10 < 10; omega)
  | 1, i', hl, hn => rfl
  | 2, i', hl, hn =>
    show (.inr (6, eF (va_up fd i o i')) : va_E) = .inr (6, eF (fd i'))
    rw [va_up_ne fd o (fun z => hn ⟨rfl, z⟩)]
  | 3, i', hl, hn => rfl
  | 4, i', hl, hn => rfl
  | j + 5, i', hl, hn => exact absurd hl (fun z => z)
theorem mw.setF2 {o2 : Nat → Int32} (h : mw g A la ⟨sc, sw, ar, va_up fd i o2, tr, ld, yt, yn⟩ n H) (hi : i < n 0) (hat : mAt g (la.1 2 i) (.inr (6, eF o)) H1) (hoq : ∀ q, q < H.size → q ≠ la.1 2 i → H1[q]? = H[q]?) : mw g A la ⟨sc, sw, ar, va_up fd i o, tr, ld, yt, yn⟩ n H1 := by
  have h9 := h.setF hi hat hoq
  rw [up_up] at h9
  exact h9
theorem mw.setFc {c0 c1 c2 c3 c4 c5 c6 c7 c8 c9 c10 : Int32} (h : mw g A la ⟨sc, sw, ar, fd, tr, ld, yt, yn⟩ n H) (hi : i < n 0) (hat : mAt g (la.1 2 i) (.inr (6, [.int c0, .int c1, .int c2, .int c3, .int c4, .int c5, .int c6, .int c7, .int c8, .int c9, .int c10])) H1) (hoq : ∀ q, q < H.size → q ≠ la.1 2 i → H1[q]? = H[q]?) : mw g A la ⟨sc, sw, ar, va_up fd i (ob11 c0 c1 c2 c3 c4 c5 c6 c7 c8 c9 c10), tr, ld, yt, yn⟩ n H1 := h.setF hi hat hoq
theorem mw.setF2c {c0 c1 c2 c3 c4 c5 c6 c7 c8 c9 c10 : Int32} {o2 : Nat → Int32} (h : mw g A la ⟨sc, sw, ar, va_up fd i o2, tr, ld, yt, yn⟩ n H) (hi : i < n 0) (hat : mAt g (la.1 2 i) (.inr (6, [.int c0, .int c1, .int c2, .int c3, .int c4, .int c5, .int c6, .int c7, .int c8, .int c9, .int c10])) H1) (hoq : ∀ q, q < H.size → q ≠ la.1 2 i → H1[q]? = H[q]?) : mw g A la ⟨sc, sw, ar, va_up fd i (ob11 c0 c1 c2 c3 c4 c5 c6 c7 c8 c9 c10), tr, ld, yt, yn⟩ n H1 := h.setF2 hi hat hoq
theorem mw.setT (h : mw g A la ⟨sc, sw, ar, fd, tr, ld, yt, yn⟩ n H) (hi : i < n 1) (hat : mAt g (la.1 3 i) (.inr (8, eT o)) H1) (hoq : ∀ q, q < H.size → q ≠ la.1 3 i → H1[q]? = H[q]?) : mw g A la ⟨sc, sw, ar, fd, va_up tr i o, ld, yt, yn⟩ n H1 := by
  refine ⟨h.1.put 3 i hi (by show mAt g _ (.inr (8, eT (va_up tr i o i))) H1; rw [va_up_self]; exact hat) hoq (fun j i' hl hn => ?_), h.2⟩
  match j, i', hl, hn with
  | 0, 0, hl, hn => rfl
  | 0, 1, hl, hn => rfl
  | 0, 2, hl, hn => rfl
  | 0, 3, hl, hn => rfl
  | 0, 4, hl, hn => rfl
  | 0, 5, hl, hn => rfl
  | 0, 6, hl, hn => rfl
  | 0, 7, hl, hn => rfl
  | 0, 8, hl, hn => rfl
  | 0, 9, hl, hn => rfl
  | 0, q + 10, hl, hn => exact absurd hl (by show ¬ q + 10 < 10; omega)
  | 1, i', hl, hn => rfl
  | 2, i', hl, hn => rfl
  | 3, i', hl, hn =>
    show (.inr (8, eT (va_up tr i o i')) : va_E) = .inr (8, eT (tr i'))
    rw [va_up_ne tr o (fun z => hn ⟨rfl, z⟩)]
  | 4, i', hl, hn => rfl
  | j + 5, i', hl, hn => exact absurd hl (fun z => z)
theorem mw.setT2 {o2 : Nat → Int32} (h : mw g A la ⟨sc, sw, ar, fd, va_up tr i o2, ld, yt, yn⟩ n H) (hi : i < n 1) (hat : mAt g (la.1 3 i) (.inr (8, eT o)) H1) (hoq : ∀ q, q < H.size → q ≠ la.1 3 i → H1[q]? = H[q]?) : mw g A la ⟨sc, sw, ar, fd, va_up tr i o, ld, yt, yn⟩ n H1 := by
  have h9 := h.setT hi hat hoq
  rw [up_up] at h9
  exact h9
theorem mw.setTc {c0 c1 c2 c3 : Int32} (h : mw g A la ⟨sc, sw, ar, fd, tr, ld, yt, yn⟩ n H) (hi : i < n 1) (hat : mAt g (la.1 3 i) (.inr (8, [.int c0, .int c1, .int c2, .int c3])) H1) (hoq : ∀ q, q < H.size → q ≠ la.1 3 i → H1[q]? = H[q]?) : mw g A la ⟨sc, sw, ar, fd, va_up tr i (ob4 c0 c1 c2 c3), ld, yt, yn⟩ n H1 := h.setT hi hat hoq
theorem mw.setT2c {c0 c1 c2 c3 : Int32} {o2 : Nat → Int32} (h : mw g A la ⟨sc, sw, ar, fd, va_up tr i o2, ld, yt, yn⟩ n H) (hi : i < n 1) (hat : mAt g (la.1 3 i) (.inr (8, [.int c0, .int c1, .int c2, .int c3])) H1) (hoq : ∀ q, q < H.size → q ≠ la.1 3 i → H1[q]? = H[q]?) : mw g A la ⟨sc, sw, ar, fd, va_up tr i (ob4 c0 c1 c2 c3), ld, yt, yn⟩ n H1 := h.setT2 hi hat hoq
theorem mw.setL (h : mw g A la ⟨sc, sw, ar, fd, tr, ld, yt, yn⟩ n H) (hi : i < n 2) (hat : mAt g (la.1 4 i) (.inr (10, eM o)) H1) (hoq : ∀ q, q < H.size → q ≠ la.1 4 i → H1[q]? = H[q]?) : mw g A la ⟨sc, sw, ar, fd, tr, va_up ld i o, yt, yn⟩ n H1 := by
  refine ⟨h.1.put 4 i hi (by show mAt g _ (.inr (10, eM (va_up ld i o i))) H1; rw [va_up_self]; exact hat) hoq (fun j i' hl hn => ?_), h.2⟩
  match j, i', hl, hn with
  | 0, 0, hl, hn => rfl
  | 0, 1, hl, hn => rfl
  | 0, 2, hl, hn => rfl
  | 0, 3, hl, hn => rfl
  | 0, 4, hl, hn => rfl
  | 0, 5, hl, hn => rfl
  | 0, 6, hl, hn => rfl
  | 0, 7, hl, hn => rfl
  | 0, 8, hl, hn => rfl
  | 0, 9, hl, hn => rfl
  | 0, q + 10, hl, hn => exact absurd hl (by show ¬ q + 10 < 10; omega)
  | 1, i', hl, hn => rfl
  | 2, i', hl, hn => rfl
  | 3, i', hl, hn => rfl
  | 4, i', hl, hn =>
    show (.inr (10, eM (va_up ld i o i')) : va_E) = .inr (10, eM (ld i'))
    rw [va_up_ne ld o (fun z => hn ⟨rfl, z⟩)]
  | j + 5, i', hl, hn => exact absurd hl (fun z => z)
theorem mw.setL2 {o2 : Nat → Int32} (h : mw g A la ⟨sc, sw, ar, fd, tr, va_up ld i o2, yt, yn⟩ n H) (hi : i < n 2) (hat : mAt g (la.1 4 i) (.inr (10, eM o)) H1) (hoq : ∀ q, q < H.size → q ≠ la.1 4 i → H1[q]? = H[q]?) : mw g A la ⟨sc, sw, ar, fd, tr, va_up ld i o, yt, yn⟩ n H1 := by
  have h9 := h.setL hi hat hoq
  rw [up_up] at h9
  exact h9
theorem mw.setLc {c0 c1 c2 c3 c4 c5 c6 c7 : Int32} (h : mw g A la ⟨sc, sw, ar, fd, tr, ld, yt, yn⟩ n H) (hi : i < n 2) (hat : mAt g (la.1 4 i) (.inr (10, [.int c0, .int c1, .int c2, .int c3, .int c4, .int c5, .int c6, .int c7])) H1) (hoq : ∀ q, q < H.size → q ≠ la.1 4 i → H1[q]? = H[q]?) : mw g A la ⟨sc, sw, ar, fd, tr, va_up ld i (ob8 c0 c1 c2 c3 c4 c5 c6 c7), yt, yn⟩ n H1 := h.setL hi hat hoq
theorem mw.setL2c {c0 c1 c2 c3 c4 c5 c6 c7 : Int32} {o2 : Nat → Int32} (h : mw g A la ⟨sc, sw, ar, fd, tr, va_up ld i o2, yt, yn⟩ n H) (hi : i < n 2) (hat : mAt g (la.1 4 i) (.inr (10, [.int c0, .int c1, .int c2, .int c3, .int c4, .int c5, .int c6, .int c7])) H1) (hoq : ∀ q, q < H.size → q ≠ la.1 4 i → H1[q]? = H[q]?) : mw g A la ⟨sc, sw, ar, fd, tr, va_up ld i (ob8 c0 c1 c2 c3 c4 c5 c6 c7), yt, yn⟩ n H1 := h.setL2 hi hat hoq
/-- the list's array or its counter have changed -/
def lsM (la : LT) (k e : Nat) (mo : Int32) : LT := (fun j i => if j = 1 ∧ i = k then e else la.1 j i, la.2.1, va_up la.2.2 k mo)
theorem lsM_o {k e j : Nat} {mo : Int32} (h : ¬ (j = 1 ∧ i = k)) : (lsM la k e mo).1 j i = la.1 j i := if_neg h
theorem lsM_e {k e : Nat} {mo : Int32} : (lsM la k e mo).1 1 k = e := if_pos ⟨rfl, rfl⟩
/-- all but the lists' arrays lie where they lay -/
def sA (la lb : LT) : Prop := ∀ j i, j ≠ 1 → lb.1 j i = la.1 j i
theorem sA.refl : sA la la := fun _ _ _ => rfl
theorem sA.trans {la lb lc : LT} (h : sA la lb) (h2 : sA lb lc) : sA la lc := fun j i hj => (h2 j i hj).trans (h j i hj)
theorem sA_ls {k e : Nat} {mo : Int32} : sA la (lsM la k e mo) := fun j i hj => lsM_o (fun z => hj z.1)
theorem mw.lst3 (h : mw g A la ⟨sc, sw, ar, fd, tr, ld, yt, yn⟩ n H) {e cap n1 : Nat} {mo : Int32} {y : Nat → Nat} (hl : mAt g (la.1 0 4) (.inr (2, [.int mo, .ref e, .int (nI n1)])) H1)
    (hea : cap ≠ 0 → mAt g e (.inl (g.2.1 2, cap, rfs (fun j => if j < n1 then some (icA g (y j)) else none))) H1) (hok : n1 ≤ cap ∧ cap ≤ 145 ∧ (cap = 0 → e = g.2.2 1))
    (he : cap ≠ 0 → (yn 2 ≠ 0 ∧ e = la.1 1 3) ∨ H.size ≤ e) (hkp : ∀ q, q < H.size → q ≠ la.1 0 4 → (yn 2 ≠ 0 → q ≠ la.1 1 3) → H1[q]? = H[q]?) :
    mw g (fA (mF la n yn) H.size) (lsM la 3 e mo) ⟨sc, sw, ar, fd, tr, ld, va_up yt 0 y, (va_up (va_up yn 0 n1) 2 cap)⟩ n H1 := by
  have hdd : ∀ j i, mLv la n yn j i → ¬ (j = 0 ∧ i = 4 ∨ j = 1 ∧ i = 3) → la.1 j i ≠ la.1 0 4 ∧ (yn 2 ≠ 0 → la.1 j i ≠ la.1 1 3) := fun j i hl9 hn => ⟨h.1.ne hl9 (j' := 0) (i' := 4) (by show 4 < 10; decide) (fun z => hn (Or.inl z)), fun h0 => h.1.ne hl9 (j' := 1) (i' := 3) ⟨by decide, h0⟩ (fun z => hn (Or.inr z))⟩
  have hs : ∀ j i, mLv (lsM la 3 e mo) n (va_up (va_up yn 0 n1) 2 cap) j i → ¬ (j = 0 ∧ i = 4 ∨ j = 1 ∧ i = 3) → mLv la n yn j i ∧ (lsM la 3 e mo).1 j i = la.1 j i ∧ mCt g (lsM la 3 e mo) ⟨sc, sw, ar, fd, tr, ld, va_up yt 0 y, (va_up (va_up yn 0 n1) 2 cap)⟩ n j i = mCt g la ⟨sc, sw, ar, fd, tr, ld, yt, yn⟩ n j i := by
    intro j i hl9 hn
    refine ⟨?_, lsM_o (fun z => hn (Or.inr z)), ?_⟩
    · match j, i, hl9, hn with
      | 0, i, hl9, hn => exact hl9
      | 1, 0, hl9, hn => exact hl9
      | 1, 1, hl9, hn => exact hl9
      | 1, 2, hl9, hn => exact hl9
      | 1, 3, hl9, hn => exact absurd (Or.inr ⟨rfl, rfl⟩) hn
      | 1, 4, hl9, hn => exact hl9
      | 1, i + 5, hl9, hn => exact absurd hl9.1 (by omega)
      | 2, i, hl9, hn => exact hl9
      | 3, i, hl9, hn => exact hl9
      | 4, i, hl9, hn => exact hl9
      | j + 5, i, hl9, hn => exact absurd hl9 (fun z => z)
    · match j, i, hl9, hn with
      | 0, 0, hl9, hn => rfl
      | 0, 1, hl9, hn => rfl
      | 0, 2, hl9, hn => rfl
      | 0, 3, hl9, hn => rfl
      | 0, 4, hl9, hn => exact absurd (Or.inl ⟨rfl, rfl⟩) hn
      | 0, 5, hl9, hn => rfl
      | 0, 6, hl9, hn => rfl
      | 0, 7, hl9, hn => rfl
      | 0, 8, hl9, hn => rfl
      | 0, 9, hl9, hn => rfl
      | 0, i + 10, hl9, hn => exact absurd hl9 (by show ¬ i + 10 < 10; omega)
      | 1, 0, hl9, hn => rfl
      | 1, 1, hl9, hn => rfl
      | 1, 2, hl9, hn => rfl
      | 1, 3, hl9, hn => exact absurd (Or.inr ⟨rfl, rfl⟩) hn
      | 1, 4, hl9, hn => rfl
      | 1, i + 5, hl9, hn => exact absurd hl9.1 (by omega)
      | 2, i, hl9, hn => rfl
      | 3, i, hl9, hn => rfl
      | 4, i, hl9, hn => rfl
      | j + 5, i, hl9, hn => exact absurd hl9 (fun z => z)
  have heq : ∀ j i, mLv la n yn j i → ¬ (j = 0 ∧ i = 4 ∨ j = 1 ∧ i = 3) → cap ≠ 0 → e ≠ la.1 j i := by
    intro j i hl9 hn hc z
    rcases he hc with ⟨h0, h1⟩ | h1
    · exact (hdd j i hl9 hn).2 h0 (z ▸ h1)
    · exact Nat.not_le.mpr (h.1.at hl9).lt (z ▸ h1)
  have he4 : cap ≠ 0 → e ≠ la.1 0 4 := by
    intro hc z
    rcases he hc with ⟨h0, h1⟩ | h1
    · exact absurd (h.1.2 1 3 0 4 ⟨by decide, h0⟩ (by show 4 < 10; decide) (h1 ▸ z)) (by omega)
    · exact Nat.not_le.mpr (h.1.at (j := 0) (i := 4) (by show 4 < 10; decide)).lt (z ▸ h1)
  refine ⟨h.1.chg (fun j i => j = 0 ∧ i = 4 ∨ j = 1 ∧ i = 3) ?_ hs (fun j i hl9 hn => hkp _ (h.1.at hl9).lt (hdd j i hl9 hn).1 (hdd j i hl9 hn).2) (fun j i hl9 _ => Or.inl ⟨j, i, hl9, rfl⟩) ?_, ?_⟩
  · rintro j i hl9 (⟨rfl, rfl⟩ | ⟨rfl, rfl⟩)
    · exact ⟨hl, Or.inl ⟨0, 4, (by show 4 < 10; decide), rfl⟩⟩
    · have hc : cap ≠ 0 := hl9.2
      refine ⟨hea hc, ?_⟩
      show fA (mF la n yn) H.size e
      rcases he hc with ⟨h0, h1⟩ | h1
      · exact Or.inl ⟨1, 3, ⟨by decide, h0⟩, h1⟩
      · exact Or.inr h1
  · rintro j i j' i' hl9 (⟨rfl, rfl⟩ | ⟨rfl, rfl⟩) hl9' ee
    · by_cases hd : j' = 0 ∧ i' = 4 ∨ j' = 1 ∧ i' = 3
      · rcases hd with ⟨rfl, rfl⟩ | ⟨rfl, rfl⟩
        · exact ⟨rfl, rfl⟩
        · exact absurd (show e = la.1 0 4 from ee.symm) (he4 hl9'.2)
      · obtain ⟨a1, a2, -⟩ := hs j' i' hl9' hd
        rw [a2] at ee
        exact absurd (show la.1 j' i' = la.1 0 4 from ee.symm) (hdd j' i' a1 hd).1
    · have hc : cap ≠ 0 := hl9.2
      by_cases hd : j' = 0 ∧ i' = 4 ∨ j' = 1 ∧ i' = 3
      · rcases hd with ⟨rfl, rfl⟩ | ⟨rfl, rfl⟩
        · exact absurd (show e = la.1 0 4 from ee) (he4 hc)
        · exact ⟨rfl, rfl⟩
      · obtain ⟨a1, a2, -⟩ := hs j' i' hl9' hd
        rw [a2] at ee
        exact absurd (show e = la.1 j' i' from ee) (heq j' i' a1 hd hc)
  · exact ⟨fun j hj => h.2.1 j hj |> fun z => (by match j, hj, z with | 0, _, z => exact z | 1, _, z => exact z | 2, _, z => exact z | j + 3, hj, _ => omega), ⟨hok.1, hok.2.1, hok.2.2⟩, h.2.2.2⟩
theorem mw.lst4 (h : mw g A la ⟨sc, sw, ar, fd, tr, ld, yt, yn⟩ n H) {e cap n1 : Nat} {mo : Int32} {y : Nat → Nat} (hl : mAt g (la.1 0 5) (.inr (2, [.int mo, .ref e, .int (nI n1)])) H1)
    (hea : cap ≠ 0 → mAt g e (.inl (g.2.1 2, cap, rfs (fun j => if j < n1 then some (icA g (y j)) else none))) H1) (hok : n1 ≤ cap ∧ cap ≤ 145 ∧ (cap = 0 → e = g.2.2 1))
    (he : cap ≠ 0 → (yn 3 ≠ 0 ∧ e = la.1 1 4) ∨ H.size ≤ e) (hkp : ∀ q, q < H.size → q ≠ la.1 0 5 → (yn 3 ≠ 0 → q ≠ la.1 1 4) → H1[q]? = H[q]?) :
    mw g (fA (mF la n yn) H.size) (lsM la 4 e mo) ⟨sc, sw, ar, fd, tr, ld, va_up yt 1 y, (va_up (va_up yn 1 n1) 3 cap)⟩ n H1 := by
  have hdd : ∀ j i, mLv la n yn j i → ¬ (j = 0 ∧ i = 5 ∨ j = 1 ∧ i = 4) → la.1 j i ≠ la.1 0 5 ∧ (yn 3 ≠ 0 → la.1 j i ≠ la.1 1 4) := fun j i hl9 hn => ⟨h.1.ne hl9 (j' := 0) (i' := 5) (by show 5 < 10; decide) (fun z => hn (Or.inl z)), fun h0 => h.1.ne hl9 (j' := 1) (i' := 4) ⟨by decide, h0⟩ (fun z => hn (Or.inr z))⟩
  have hs : ∀ j i, mLv (lsM la 4 e mo) n (va_up (va_up yn 1 n1) 3 cap) j i → ¬ (j = 0 ∧ i = 5 ∨ j = 1 ∧ i = 4) → mLv la n yn j i ∧ (lsM la 4 e mo).1 j i = la.1 j i ∧ mCt g (lsM la 4 e mo) ⟨sc, sw, ar, fd, tr, ld, va_up yt 1 y, (va_up (va_up yn 1 n1) 3 cap)⟩ n j i = mCt g la ⟨sc, sw, ar, fd, tr, ld, yt, yn⟩ n j i := by
    intro j i hl9 hn
    refine ⟨?_, lsM_o (fun z => hn (Or.inr z)), ?_⟩
    · match j, i, hl9, hn with
      | 0, i, hl9, hn => exact hl9
      | 1, 0, hl9, hn => exact hl9
      | 1, 1, hl9, hn => exact hl9
      | 1, 2, hl9, hn => exact hl9
      | 1, 3, hl9, hn => exact hl9
      | 1, 4, hl9, hn => exact absurd (Or.inr ⟨rfl, rfl⟩) hn
      | 1, i + 5, hl9, hn => exact absurd hl9.1 (by omega)
      | 2, i, hl9, hn => exact hl9
      | 3, i, hl9, hn => exact hl9
      | 4, i, hl9, hn => exact hl9
      | j + 5, i, hl9, hn => exact absurd hl9 (fun z => z)
    · match j, i, hl9, hn with
      | 0, 0, hl9, hn => rfl
      | 0, 1, hl9, hn => rfl
      | 0, 2, hl9, hn => rfl
      | 0, 3, hl9, hn => rfl
      | 0, 4, hl9, hn => rfl
      | 0, 5, hl9, hn => exact absurd (Or.inl ⟨rfl, rfl⟩) hn
      | 0, 6, hl9, hn => rfl
      | 0, 7, hl9, hn => rfl
      | 0, 8, hl9, hn => rfl
      | 0, 9, hl9, hn => rfl
      | 0, i + 10, hl9, hn => exact absurd hl9 (by show ¬ i + 10 < 10; omega)
      | 1, 0, hl9, hn => rfl
      | 1, 1, hl9, hn => rfl
      | 1, 2, hl9, hn => rfl
      | 1, 3, hl9, hn => rfl
      | 1, 4, hl9, hn => exact absurd (Or.inr ⟨rfl, rfl⟩) hn
      | 1, i + 5, hl9, hn => exact absurd hl9.1 (by omega)
      | 2, i, hl9, hn => rfl
      | 3, i, hl9, hn => rfl
      | 4, i, hl9, hn => rfl
      | j + 5, i, hl9, hn => exact absurd hl9 (fun z => z)
  have heq : ∀ j i, mLv la n yn j i → ¬ (j = 0 ∧ i = 5 ∨ j = 1 ∧ i = 4) → cap ≠ 0 → e ≠ la.1 j i := by
    intro j i hl9 hn hc z
    rcases he hc with ⟨h0, h1⟩ | h1
    · exact (hdd j i hl9 hn).2 h0 (z ▸ h1)
    · exact Nat.not_le.mpr (h.1.at hl9).lt (z ▸ h1)
  have he4 : cap ≠ 0 → e ≠ la.1 0 5 := by
    intro hc z
    rcases he hc with ⟨h0, h1⟩ | h1
    · exact absurd (h.1.2 1 4 0 5 ⟨by decide, h0⟩ (by show 5 < 10; decide) (h1 ▸ z)) (by omega)
    · exact Nat.not_le.mpr (h.1.at (j := 0) (i := 5) (by show 5 < 10; decide)).lt (z ▸ h1)
  refine ⟨h.1.chg (fun j i => j = 0 ∧ i = 5 ∨ j = 1 ∧ i = 4) ?_ hs (fun j i hl9 hn => hkp _ (h.1.at hl9).lt (hdd j i hl9 hn).1 (hdd j i hl9 hn).2) (fun j i hl9 _ => Or.inl ⟨j, i, hl9, rfl⟩) ?_, ?_⟩
  · rintro j i hl9 (⟨rfl, rfl⟩ | ⟨rfl, rfl⟩)
    · exact ⟨hl, Or.inl ⟨0, 5, (by show 5 < 10; decide), rfl⟩⟩
    · have hc : cap ≠ 0 := hl9.2
      refine ⟨hea hc, ?_⟩
      show fA (mF la n yn) H.size e
      rcases he hc with ⟨h0, h1⟩ | h1
      · exact Or.inl ⟨1, 4, ⟨by decide, h0⟩, h1⟩
      · exact Or.inr h1
  · rintro j i j' i' hl9 (⟨rfl, rfl⟩ | ⟨rfl, rfl⟩) hl9' ee
    · by_cases hd : j' = 0 ∧ i' = 5 ∨ j' = 1 ∧ i' = 4
      · rcases hd with ⟨rfl, rfl⟩ | ⟨rfl, rfl⟩
        · exact ⟨rfl, rfl⟩
        · exact absurd (show e = la.1 0 5 from ee.symm) (he4 hl9'.2)
      · obtain ⟨a1, a2, -⟩ := hs j' i' hl9' hd
        rw [a2] at ee
        exact absurd (show la.1 j' i' = la.1 0 5 from ee.symm) (hdd j' i' a1 hd).1
    · have hc : cap ≠ 0 := hl9.2
      by_cases hd : j' = 0 ∧ i' = 5 ∨ j' = 1 ∧ i' = 4
      · rcases hd with ⟨rfl, rfl⟩ | ⟨rfl, rfl⟩
        · exact absurd (show e = la.1 0 5 from ee) (he4 hc)
        · exact ⟨rfl, rfl⟩
      · obtain ⟨a1, a2, -⟩ := hs j' i' hl9' hd
        rw [a2] at ee
        exact absurd (show e = la.1 j' i' from ee) (heq j' i' a1 hd hc)
  · exact ⟨fun j hj => h.2.1 j hj |> fun z => (by match j, hj, z with | 0, _, z => exact z | 1, _, z => exact z | 2, _, z => exact z | j + 3, hj, _ => omega), h.2.2.1, ⟨hok.1, hok.2.1, hok.2.2⟩⟩
theorem mw.addF {e v : Nat} {c0 c1 c2 c3 c4 c5 c6 c7 c8 c9 c10 : Int32} (h : mw g A la ⟨sc, sw, ar, fd, tr, ld, yt, yn⟩ n H) (hn : n 0 < 2 ^ 20) (hv : mAt g v (.inr (6, [.int c0, .int c1, .int c2, .int c3, .int c4, .int c5, .int c6, .int c7, .int c8, .int c9, .int c10])) H) (hva : ∀ q, mF la n yn q → q ≠ v)
    (he : if n 0 < la.2.1 0 then e = la.1 1 0 else H.size ≤ e) (hl : mAt g (la.1 0 1) (.inr (2, [.int (la.2.2 0 + 1), .ref e, .int (nI (n 0 + 1))])) H1) (hea : mAt g e (.inl (g.2.1 2, newCap (n 0) (la.2.1 0), rfs (va_up (elM g la.1 yt (cnM n yn) 0) (n 0) (some v)))) H1)
    (hk : ∀ q, q < H.size → ¬ (fA (fun q => q = la.1 0 1 ∨ (la.2.1 0 ≠ 0 ∧ q = la.1 1 0)) H.size) q → H1[q]? = H[q]?) : mw g (fun q => fA (mF la n yn) H.size q ∨ q = v) (adA la n 0 e v) ⟨sc, sw, ar, va_up fd (n 0) (ob11 c0 c1 c2 c3 c4 c5 c6 c7 c8 c9 c10), tr, ld, yt, yn⟩ (va_up n 0 (n 0 + 1)) H1 := by
  obtain ⟨hc1, hc2, hc3, hc4⟩ := h.2.1 0 (by decide)
  have hc1 : n 0 ≤ la.2.1 0 := hc1
  have hc4 : 2 * la.2.1 0 ≤ 20 + 3 * n 0 := hc4
  obtain ⟨q1, q2, -, -, q3⟩ := newCap_le _ _ hc1 hc4
  have hdd : ∀ j i, mLv la n yn j i → ¬ (j = 0 ∧ i = 1 ∨ j = 1 ∧ i = 0 ∨ j = 2 ∧ i = n 0) → la.1 j i ≠ la.1 0 1 ∧ (la.2.1 0 ≠ 0 → la.1 j i ≠ la.1 1 0) := fun j i hl9 hn9 => ⟨h.1.ne hl9 (j' := 0) (i' := 1) (by show 1 < 10; decide) (fun z => hn9 (Or.inl z)), fun h0 => h.1.ne hl9 (j' := 1) (i' := 0) ⟨by decide, h0⟩ (fun z => hn9 (Or.inr (Or.inl z)))⟩
  have hkA : ∀ q, q < H.size → q ≠ la.1 0 1 → (la.2.1 0 ≠ 0 → q ≠ la.1 1 0) → H1[q]? = H[q]? := fun q hq a b => hk q hq (fun z => z.elim (fun z => z.elim a (fun z => b z.1 z.2)) (Nat.not_le.mpr hq))
  have hv1 : mAt g v (.inr (6, [.int c0, .int c1, .int c2, .int c3, .int c4, .int c5, .int c6, .int c7, .int c8, .int c9, .int c10])) H1 := hv.kept (hkA _ hv.lt (fun z => hva _ ⟨0, 1, (by show 1 < 10; decide), rfl⟩ z.symm) (fun h0 z => hva _ ⟨1, 0, ⟨by decide, h0⟩, rfl⟩ z.symm))
  have he2 : (la.2.1 0 ≠ 0 ∧ e = la.1 1 0) ∨ H.size ≤ e := by
    by_cases h1 : n 0 < la.2.1 0
    · rw [if_pos h1] at he
      exact Or.inl ⟨by omega, he⟩
    · rw [if_neg h1] at he
      exact Or.inr he
  have hev : e ≠ v := by
    rcases he2 with ⟨h0, h1⟩ | h1
    · rw [h1]
      exact hva _ ⟨1, 0, ⟨by decide, h0⟩, rfl⟩
    · exact fun z => Nat.not_le.mpr hv.lt (z ▸ h1)
  have hek : ∀ j i, mLv la n yn j i → ¬ (j = 1 ∧ i = 0) → e ≠ la.1 j i := by
    intro j i hl9 hn9 z
    rcases he2 with ⟨h0, h1⟩ | h1
    · exact hn9 (h.1.2 j i 1 0 hl9 ⟨by decide, h0⟩ (z ▸ h1))
    · exact Nat.not_le.mpr (h.1.at hl9).lt (z ▸ h1)
  have hs : ∀ j i, mLv (adA la n 0 e v) (va_up n 0 (n 0 + 1)) yn j i → ¬ (j = 0 ∧ i = 1 ∨ j = 1 ∧ i = 0 ∨ j = 2 ∧ i = n 0) → mLv la n yn j i ∧ (adA la n 0 e v).1 j i = la.1 j i ∧ mCt g (adA la n 0 e v) ⟨sc, sw, ar, va_up fd (n 0) (ob11 c0 c1 c2 c3 c4 c5 c6 c7 c8 c9 c10), tr, ld, yt, yn⟩ (va_up n 0 (n 0 + 1)) j i = mCt g la ⟨sc, sw, ar, fd, tr, ld, yt, yn⟩ n j i := by
    intro j i hl9 hn9
    have hA1 : (adA la n 0 e v).1 j i = la.1 j i := adA_o (fun z => hn9 (Or.inr (Or.inl z))) (fun z => hn9 (Or.inr (Or.inr z)))
    refine ⟨?_, hA1, ?_⟩
    · match j, i, hl9, hn9 with
      | 0, i, hl9, hn9 => exact hl9
      | 1, 0, hl9, hn9 => exact absurd (Or.inr (Or.inl ⟨rfl, rfl⟩)) hn9
      | 1, 1, hl9, hn9 => exact hl9
      | 1, 2, hl9, hn9 => exact hl9
      | 1, 3, hl9, hn9 => exact hl9
      | 1, 4, hl9, hn9 => exact hl9
      | 1, i + 5, hl9, hn9 => exact absurd hl9.1 (by omega)
      | 2, i, hl9, hn9 =>
        have h3 : i < va_up n 0 (n 0 + 1) 0 := hl9
        rw [va_up_self] at h3
        have h4 : ¬ i = n 0 := fun z => hn9 (Or.inr (Or.inr ⟨rfl, z⟩))
        show i < n 0
        omega
      | 3, i, hl9, hn9 => exact hl9
      | 4, i, hl9, hn9 => exact hl9
      | j + 5, i, hl9, hn9 => exact absurd hl9 (fun z => z)
    · match j, i, hl9, hn9 with
      | 0, 0, hl9, hn9 => 
        show (.inr (4, eE (adA la n 0 e v).1 sc sw) : va_E) = .inr (4, eE la.1 sc sw)
        unfold eE
        rw [adA_0, adA_0, adA_0, adA_0, adA_0, adA_0, adA_0, adA_0, adA_0]
      | 0, 1, hl9, hn9 => exact absurd (Or.inl ⟨rfl, rfl⟩) hn9
      | 0, 2, hl9, hn9 => 
        show (.inr (2, [.int (va_up la.2.2 0 (la.2.2 0 + 1) 1), .ref ((adA la n 0 e v).1 1 1), .int (nI (cnM (va_up n 0 (n 0 + 1)) yn 1))]) : va_E) = .inr (2, [.int (la.2.2 1), .ref (la.1 1 1), .int (nI (cnM n yn 1))])
        rw [va_up_ne la.2.2 _ (by decide), adA_o (by decide) (by omega)]
        rfl
      | 0, 3, hl9, hn9 => 
        show (.inr (2, [.int (va_up la.2.2 0 (la.2.2 0 + 1) 2), .ref ((adA la n 0 e v).1 1 2), .int (nI (cnM (va_up n 0 (n 0 + 1)) yn 2))]) : va_E) = .inr (2, [.int (la.2.2 2), .ref (la.1 1 2), .int (nI (cnM n yn 2))])
        rw [va_up_ne la.2.2 _ (by decide), adA_o (by decide) (by omega)]
        rfl
      | 0, 4, hl9, hn9 => 
        show (.inr (2, [.int (va_up la.2.2 0 (la.2.2 0 + 1) 3), .ref ((adA la n 0 e v).1 1 3), .int (nI (cnM (va_up n 0 (n 0 + 1)) yn 3))]) : va_E) = .inr (2, [.int (la.2.2 3), .ref (la.1 1 3), .int (nI (cnM n yn 3))])
        rw [va_up_ne la.2.2 _ (by decide), adA_o (by decide) (by omega)]
        rfl
      | 0, 5, hl9, hn9 => 
        show (.inr (2, [.int (va_up la.2.2 0 (la.2.2 0 + 1) 4), .ref ((adA la n 0 e v).1 1 4), .int (nI (cnM (va_up n 0 (n 0 + 1)) yn 4))]) : va_E) = .inr (2, [.int (la.2.2 4), .ref (la.1 1 4), .int (nI (cnM n yn 4))])
        rw [va_up_ne la.2.2 _ (by decide), adA_o (by decide) (by omega)]
        rfl
      | 0, 6, hl9, hn9 => rfl
      | 0, 7, hl9, hn9 => rfl
      | 0, 8, hl9, hn9 => rfl
      | 0, 9, hl9, hn9 => rfl
      | 0, i + 10, hl9, hn9 => exact absurd hl9 (by show ¬ i + 10 < 10; omega)
      | 1, 0, hl9, hn9 => exact absurd (Or.inr (Or.inl ⟨rfl, rfl⟩)) hn9
      | 1, 1, hl9, hn9 =>
        show (.inl (g.2.1 2, va_up la.2.1 0 (newCap (n 0) (la.2.1 0)) 1, rfs (elM g (adA la n 0 e v).1 yt (cnM (va_up n 0 (n 0 + 1)) yn) 1)) : va_E) = .inl (g.2.1 2, la.2.1 1, rfs (elM g la.1 yt (cnM n yn) 1))
        rw [va_up_ne la.2.1 _ (by decide), show elM g (adA la n 0 e v).1 yt (cnM (va_up n 0 (n 0 + 1)) yn) 1 = elM g la.1 yt (cnM n yn) 1 from by
          funext j
          show (if j < va_up n 0 (n 0 + 1) 1 then some ((adA la n 0 e v).1 3 j) else none) = if j < n 1 then some (la.1 3 j) else none
          rw [va_up_ne n _ (by decide), adA_o (by omega) (by omega)]]
      | 1, 2, hl9, hn9 =>
        show (.inl (g.2.1 2, va_up la.2.1 0 (newCap (n 0) (la.2.1 0)) 2, rfs (elM g (adA la n 0 e v).1 yt (cnM (va_up n 0 (n 0 + 1)) yn) 2)) : va_E) = .inl (g.2.1 2, la.2.1 2, rfs (elM g la.1 yt (cnM n yn) 2))
        rw [va_up_ne la.2.1 _ (by decide), show elM g (adA la n 0 e v).1 yt (cnM (va_up n 0 (n 0 + 1)) yn) 2 = elM g la.1 yt (cnM n yn) 2 from by
          funext j
          show (if j < va_up n 0 (n 0 + 1) 2 then some ((adA la n 0 e v).1 4 j) else none) = if j < n 2 then some (la.1 4 j) else none
          rw [va_up_ne n _ (by decide), adA_o (by omega) (by omega)]]
      | 1, 3, hl9, hn9 => rfl
      | 1, 4, hl9, hn9 => rfl
      | 1, i + 5, hl9, hn9 => exact absurd hl9.1 (by omega)
      | 2, i, hl9, hn9 =>
        show (.inr (6, eF (va_up fd (n 0) (ob11 c0 c1 c2 c3 c4 c5 c6 c7 c8 c9 c10) i)) : va_E) = .inr (6, eF (fd i))
        rw [va_up_ne fd _ (fun z => hn9 (Or.inr (Or.inr ⟨rfl, z⟩)))]
      | 3, i, hl9, hn9 => rfl
      | 4, i, hl9, hn9 => rfl
      | j + 5, i, hl9, hn9 => exact absurd hl9 (fun z => z)
  have a0 : (adA la n 0 e v).1 0 1 = la.1 0 1 := adA_0
  have a1 : (adA la n 0 e v).1 1 0 = e := adA_e
  have a2 : (adA la n 0 e v).1 2 (n 0) = v := adA_v
  have lv0 : mLv la n yn 0 1 := (by show 1 < 10; decide)
  refine ⟨h.1.chg (fun j i => j = 0 ∧ i = 1 ∨ j = 1 ∧ i = 0 ∨ j = 2 ∧ i = n 0) ?_ hs (fun j i hl9 hn9 => hkA _ (h.1.at hl9).lt (hdd j i hl9 hn9).1 (hdd j i hl9 hn9).2) (fun j i hl9 _ => Or.inl (Or.inl ⟨j, i, hl9, rfl⟩)) ?_, ?_⟩
  · rintro j i hl9 (⟨rfl, rfl⟩ | ⟨rfl, rfl⟩ | ⟨rfl, rfl⟩)
    · rw [a0]
      refine ⟨?_, Or.inl (Or.inl ⟨0, 1, lv0, rfl⟩)⟩
      show mAt g _ (.inr (2, [.int (va_up la.2.2 0 (la.2.2 0 + 1) 0), .ref ((adA la n 0 e v).1 1 0), .int (nI (va_up n 0 (n 0 + 1) 0))])) H1
      rw [va_up_self, va_up_self, a1]
      exact hl
    · rw [a1]
      refine ⟨?_, Or.inl ?_⟩
      · show mAt g _ (.inl (g.2.1 2, va_up la.2.1 0 (newCap (n 0) (la.2.1 0)) 0, rfs (elM g (adA la n 0 e v).1 yt (cnM (va_up n 0 (n 0 + 1)) yn) 0))) H1
        rw [va_up_self, show elM g (adA la n 0 e v).1 yt (cnM (va_up n 0 (n 0 + 1)) yn) 0 = va_up (elM g la.1 yt (cnM n yn) 0) (n 0) (some v) from by
          funext j
          show (if j < va_up n 0 (n 0 + 1) 0 then some ((adA la n 0 e v).1 2 j) else none) = va_up (elM g la.1 yt (cnM n yn) 0) (n 0) (some v) j
          rw [va_up_self]
          by_cases hj : j = n 0
          · subst hj
            rw [va_up_self, if_pos (Nat.lt_succ_self _), a2]
          · rw [va_up_ne _ _ hj, adA_o (by omega) (fun z => hj z.2)]
            show _ = if j < n 0 then some (la.1 2 j) else none
            by_cases hj2 : j < n 0
            · rw [if_pos hj2, if_pos (by omega)]
            · rw [if_neg hj2, if_neg (by omega)]]
        exact hea
      · rcases he2 with ⟨h0, h1⟩ | h1
        · exact Or.inl ⟨1, 0, ⟨by decide, h0⟩, h1⟩
        · exact Or.inr h1
    · rw [a2]
      refine ⟨?_, Or.inr rfl⟩
      show mAt g _ (.inr (6, eF (va_up fd (n 0) (ob11 c0 c1 c2 c3 c4 c5 c6 c7 c8 c9 c10) (n 0)))) H1
      rw [va_up_self]
      exact hv1
  · intro j i j' i' hl9 hd hl9' ee
    by_cases hd' : j' = 0 ∧ i' = 1 ∨ j' = 1 ∧ i' = 0 ∨ j' = 2 ∧ i' = n 0
    · rcases hd with ⟨rfl, rfl⟩ | ⟨rfl, rfl⟩ | ⟨rfl, rfl⟩ <;> rcases hd' with ⟨rfl, rfl⟩ | ⟨rfl, rfl⟩ | ⟨rfl, rfl⟩
      · exact ⟨rfl, rfl⟩
      · rw [a0, a1] at ee; exact absurd ee.symm (hek _ _ lv0 (by omega))
      · rw [a0, a2] at ee; exact absurd ee (hva _ ⟨0, 1, lv0, rfl⟩)
      · rw [a0, a1] at ee; exact absurd ee (hek _ _ lv0 (by omega))
      · exact ⟨rfl, rfl⟩
      · rw [a1, a2] at ee; exact absurd ee hev
      · rw [a0, a2] at ee; exact absurd ee.symm (hva _ ⟨0, 1, lv0, rfl⟩)
      · rw [a1, a2] at ee; exact absurd ee.symm hev
      · exact ⟨rfl, rfl⟩
    · obtain ⟨b1, b2, -⟩ := hs j' i' hl9' hd'
      rw [b2] at ee
      rcases hd with ⟨rfl, rfl⟩ | ⟨rfl, rfl⟩ | ⟨rfl, rfl⟩
      · rw [a0] at ee; exact absurd ee.symm (hdd j' i' b1 hd').1
      · rw [a1] at ee; exact absurd ee (hek _ _ b1 (fun z => hd' (Or.inr (Or.inl z))))
      · rw [a2] at ee; exact absurd ee.symm (hva _ ⟨j', i', b1, rfl⟩)
  · refine ⟨fun j hj => ?_, h.2.2⟩
    by_cases hjk : j = 0
    · subst hjk
      show va_up n 0 (n 0 + 1) 0 ≤ va_up la.2.1 0 (newCap (n 0) (la.2.1 0)) 0 ∧ va_up la.2.1 0 (newCap (n 0) (la.2.1 0)) 0 < 2 ^ 24 ∧ (va_up la.2.1 0 (newCap (n 0) (la.2.1 0)) 0 = 0 → _) ∧ 2 * va_up la.2.1 0 (newCap (n 0) (la.2.1 0)) 0 ≤ 20 + 3 * va_up n 0 (n 0 + 1) 0
      rw [va_up_self, va_up_self]
      exact ⟨q1, by omega, fun z => absurd z q3, q2⟩
    · have h9 := h.2.1 j hj
      show va_up n 0 (n 0 + 1) j ≤ va_up la.2.1 0 (newCap (n 0) (la.2.1 0)) j ∧ va_up la.2.1 0 (newCap (n 0) (la.2.1 0)) j < 2 ^ 24 ∧ (va_up la.2.1 0 (newCap (n 0) (la.2.1 0)) j = 0 → (adA la n 0 e v).1 1 j = _) ∧ 2 * va_up la.2.1 0 (newCap (n 0) (la.2.1 0)) j ≤ 20 + 3 * va_up n 0 (n 0 + 1) j
      rw [va_up_ne n _ hjk, va_up_ne la.2.1 _ hjk, adA_o (by omega) (by omega)]
      exact h9
theorem mw.addT {e v : Nat} {c0 c1 c2 c3 : Int32} (h : mw g A la ⟨sc, sw, ar, fd, tr, ld, yt, yn⟩ n H) (hn : n 1 < 2 ^ 20) (hv : mAt g v (.inr (8, [.int c0, .int c1, .int c2, .int c3])) H) (hva : ∀ q, mF la n yn q → q ≠ v)
    (he : if n 1 < la.2.1 1 then e = la.1 1 1 else H.size ≤ e) (hl : mAt g (la.1 0 2) (.inr (2, [.int (la.2.2 1 + 1), .ref e, .int (nI (n 1 + 1))])) H1) (hea : mAt g e (.inl (g.2.1 2, newCap (n 1) (la.2.1 1), rfs (va_up (elM g la.1 yt (cnM n yn) 1) (n 1) (some v)))) H1)
    (hk : ∀ q, q < H.size → ¬ (fA (fun q => q = la.1 0 2 ∨ (la.2.1 1 ≠ 0 ∧ q = la.1 1 1)) H.size) q → H1[q]? = H[q]?) : mw g (fun q => fA (mF la n yn) H.size q ∨ q = v) (adA la n 1 e v) ⟨sc, sw, ar, fd, va_up tr (n 1) (ob4 c0 c1 c2 c3), ld, yt, yn⟩ (va_up n 1 (n 1 + 1)) H1 := by
  obtain ⟨hc1, hc2, hc3, hc4⟩ := h.2.1 1 (by decide)
  have hc1 : n 1 ≤ la.2.1 1 := hc1
  have hc4 : 2 * la.2.1 1 ≤ 20 + 3 * n 1 := hc4
  obtain ⟨q1, q2, -, -, q3⟩ := newCap_le _ _ hc1 hc4
  have hdd : ∀ j i, mLv la n yn j i → ¬ (j = 0 ∧ i = 2 ∨ j = 1 ∧ i = 1 ∨ j = 3 ∧ i = n 1) → la.1 j i ≠ la.1 0 2 ∧ (la.2.1 1 ≠ 0 → la.1 j i ≠ la.1 1 1) := fun j i hl9 hn9 => ⟨h.1.ne hl9 (j' := 0) (i' := 2) (by show 2 < 10; decide) (fun z => hn9 (Or.inl z)), fun h0 => h.1.ne hl9 (j' := 1) (i' := 1) ⟨by decide, h0⟩ (fun z => hn9 (Or.inr (Or.inl z)))⟩
  have hkA : ∀ q, q < H.size → q ≠ la.1 0 2 → (la.2.1 1 ≠ 0 → q ≠ la.1 1 1) → H1[q]? = H[q]? := fun q hq a b => hk q hq (fun z => z.elim (fun z => z.elim a (fun z => b z.1 z.2)) (Nat.not_le.mpr hq))
  have hv1 : mAt g v (.inr (8, [.int c0, .int c1, .int c2, .int c3])) H1 := hv.kept (hkA _ hv.lt (fun z => hva _ ⟨0, 2, (by show 2 < 10; decide), rfl⟩ z.symm) (fun h0 z => hva _ ⟨1, 1, ⟨by decide, h0⟩, rfl⟩ z.symm))
  have he2 : (la.2.1 1 ≠ 0 ∧ e = la.1 1 1) ∨ H.size ≤ e := by
    by_cases h1 : n 1 < la.2.1 1
    · rw [if_pos h1] at he
      exact Or.inl ⟨by omega, he⟩
    · rw [if_neg h1] at he
      exact Or.inr he
  have hev : e ≠ v := by
    rcases he2 with ⟨h0, h1⟩ | h1
    · rw [h1]
      exact hva _ ⟨1, 1, ⟨by decide, h0⟩, rfl⟩
    · exact fun z => Nat.not_le.mpr hv.lt (z ▸ h1)
  have hek : ∀ j i, mLv la n yn j i → ¬ (j = 1 ∧ i = 1) → e ≠ la.1 j i := by
    intro j i hl9 hn9 z
    rcases he2 with ⟨h0, h1⟩ | h1
    · exact hn9 (h.1.2 j i 1 1 hl9 ⟨by decide, h0⟩ (z ▸ h1))
    · exact Nat.not_le.mpr (h.1.at hl9).lt (z ▸ h1)
  have hs : ∀ j i, mLv (adA la n 1 e v) (va_up n 1 (n 1 + 1)) yn j i → ¬ (j = 0 ∧ i = 2 ∨ j = 1 ∧ i = 1 ∨ j = 3 ∧ i = n 1) → mLv la n yn j i ∧ (adA la n 1 e v).1 j i = la.1 j i ∧ mCt g (adA la n 1 e v) ⟨sc, sw, ar, fd, va_up tr (n 1) (ob4 c0 c1 c2 c3), ld, yt, yn⟩ (va_up n 1 (n 1 + 1)) j i = mCt g la ⟨sc, sw, ar, fd, tr, ld, yt, yn⟩ n j i := by
    intro j i hl9 hn9
    have hA1 : (adA la n 1 e v).1 j i = la.1 j i := adA_o (fun z => hn9 (Or.inr (Or.inl z))) (fun z => hn9 (Or.inr (Or.inr z)))
    refine ⟨?_, hA1, ?_⟩
    · match j, i, hl9, hn9 with
      | 0, i, hl9, hn9 => exact hl9
      | 1, 0, hl9, hn9 => exact hl9
      | 1, 1, hl9, hn9 => exact absurd (Or.inr (Or.inl ⟨rfl, rfl⟩)) hn9
      | 1, 2, hl9, hn9 => exact hl9
      | 1, 3, hl9, hn9 => exact hl9
      | 1, 4, hl9, hn9 => exact hl9
      | 1, i + 5, hl9, hn9 => exact absurd hl9.1 (by omega)
      | 2, i, hl9, hn9 => exact hl9
      | 3, i, hl9, hn9 =>
        have h3 : i < va_up n 1 (n 1 + 1) 1 := hl9
        rw [va_up_self] at h3
        have h4 : ¬ i = n 1 := fun z => hn9 (Or.inr (Or.inr ⟨rfl, z⟩))
        show i < n 1
        omega
      | 4, i, hl9, hn9 => exact hl9
      | j + 5, i, hl9, hn9 => exact absurd hl9 (fun z => z)
    · match j, i, hl9, hn9 with
      | 0, 0, hl9, hn9 => 
        show (.inr (4, eE (adA la n 1 e v).1 sc sw) : va_E) = .inr (4, eE la.1 sc sw)
        unfold eE
        rw [adA_0, adA_0, adA_0, adA_0, adA_0, adA_0, adA_0, adA_0, adA_0]
      | 0, 1, hl9, hn9 => 
        show (.inr (2, [.int (va_up la.2.2 1 (la.2.2 1 + 1) 0), .ref ((adA la n 1 e v).1 1 0), .int (nI (cnM (va_up n 1 (n 1 + 1)) yn 0))]) : va_E) = .inr (2, [.int (la.2.2 0), .ref (la.1 1 0), .int (nI (cnM n yn 0))])
        rw [va_up_ne la.2.2 _ (by decide), adA_o (by decide) (by omega)]
        rfl
      | 0, 2, hl9, hn9 => exact absurd (Or.inl ⟨rfl, rfl⟩) hn9
      | 0, 3, hl9, hn9 => 
        show (.inr (2, [.int (va_up la.2.2 1 (la.2.2 1 + 1) 2), .ref ((adA la n 1 e v).1 1 2), .int (nI (cnM (va_up n 1 (n 1 + 1)) yn 2))]) : va_E) = .inr (2, [.int (la.2.2 2), .ref (la.1 1 2), .int (nI (cnM n yn 2))])
        rw [va_up_ne la.2.2 _ (by decide), adA_o (by decide) (by omega)]
        rfl
      | 0, 4, hl9, hn9 => 
        show (.inr (2, [.int (va_up la.2.2 1 (la.2.2 1 + 1) 3), .ref ((adA la n 1 e v).1 1 3), .int (nI (cnM (va_up n 1 (n 1 + 1)) yn 3))]) : va_E) = .inr (2, [.int (la.2.2 3), .ref (la.1 1 3), .int (nI (cnM n yn 3))])
        rw [va_up_ne la.2.2 _ (by decide), adA_o (by decide) (by omega)]
        rfl
      | 0, 5, hl9, hn9 => 
        show (.inr (2, [.int (va_up la.2.2 1 (la.2.2 1 + 1) 4), .ref ((adA la n 1 e v).1 1 4), .int (nI (cnM (va_up n 1 (n 1 + 1)) yn 4))]) : va_E) = .inr (2, [.int (la.2.2 4), .ref (la.1 1 4), .int (nI (cnM n yn 4))])
        rw [va_up_ne la.2.2 _ (by decide), adA_o (by decide) (by omega)]
        rfl
      | 0, 6, hl9, hn9 => rfl
      | 0, 7, hl9, hn9 => rfl
      | 0, 8, hl9, hn9 => rfl
      | 0, 9, hl9, hn9 => rfl
      | 0, i + 10, hl9, hn9 => exact absurd hl9 (by show ¬ i + 10 < 10; omega)
      | 1, 0, hl9, hn9 =>
        show (.inl (g.2.1 2, va_up la.2.1 1 (newCap (n 1) (la.2.1 1)) 0, rfs (elM g (adA la n 1 e v).1 yt (cnM (va_up n 1 (n 1 + 1)) yn) 0)) : va_E) = .inl (g.2.1 2, la.2.1 0, rfs (elM g la.1 yt (cnM n yn) 0))
        rw [va_up_ne la.2.1 _ (by decide), show elM g (adA la n 1 e v).1 yt (cnM (va_up n 1 (n 1 + 1)) yn) 0 = elM g la.1 yt (cnM n yn) 0 from by
          funext j
          show (if j < va_up n 1 (n 1 + 1) 0 then some ((adA la n 1 e v).1 2 j) else none) = if j < n 0 then some (la.1 2 j) else none
          rw [va_up_ne n _ (by decide), adA_o (by omega) (by omega)]]
      | 1, 1, hl9, hn9 => exact absurd (Or.inr (Or.inl ⟨rfl, rfl⟩)) hn9
      | 1, 2, hl9, hn9 =>
        show (.inl (g.2.1 2, va_up la.2.1 1 (newCap (n 1) (la.2.1 1)) 2, rfs (elM g (adA la n 1 e v).1 yt (cnM (va_up n 1 (n 1 + 1)) yn) 2)) : va_E) = .inl (g.2.1 2, la.2.1 2, rfs (elM g la.1 yt (cnM n yn) 2))
        rw [va_up_ne la.2.1 _ (by decide), show elM g (adA la n 1 e v).1 yt (cnM (va_up n 1 (n 1 + 1)) yn) 2 = elM g la.1 yt (cnM n yn) 2 from by
          funext j
          show (if j < va_up n 1 (n 1 + 1) 2 then some ((adA la n 1 e v).1 4 j) else none) = if j < n 2 then some (la.1 4 j) else none
          rw [va_up_ne n _ (by decide), adA_o (by omega) (by omega)]]
      | 1, 3, hl9, hn9 => rfl
      | 1, 4, hl9, hn9 => rfl
      | 1, i + 5, hl9, hn9 => exact absurd hl9.1 (by omega)
      | 2, i, hl9, hn9 => rfl
      | 3, i, hl9, hn9 =>
        show (.inr (8, eT (va_up tr (n 1) (ob4 c0 c1 c2 c3) i)) : va_E) = .inr (8, eT (tr i))
        rw [va_up_ne tr _ (fun z => hn9 (Or.inr (Or.inr ⟨rfl, z⟩)))]
      | 4, i, hl9, hn9 => rfl
      | j + 5, i, hl9, hn9 => exact absurd hl9 (fun z => z)
  have a0 : (adA la n 1 e v).1 0 2 = la.1 0 2 := adA_0
  have a1 : (adA la n 1 e v).1 1 1 = e := adA_e
  have a2 : (adA la n 1 e v).1 3 (n 1) = v := adA_v
  have lv0 : mLv la n yn 0 2 := (by show 2 < 10; decide)
  refine ⟨h.1.chg (fun j i => j = 0 ∧ i = 2 ∨ j = 1 ∧ i = 1 ∨ j = 3 ∧ i = n 1) ?_ hs (fun j i hl9 hn9 => hkA _ (h.1.at hl9).lt (hdd j i hl9 hn9).1 (hdd j i hl9 hn9).2) (fun j i hl9 _ => Or.inl (Or.inl ⟨j, i, hl9, rfl⟩)) ?_, ?_⟩
  · rintro j i hl9 (⟨rfl, rfl⟩ | ⟨rfl, rfl⟩ | ⟨rfl, rfl⟩)
    · rw [a0]
      refine ⟨?_, Or.inl (Or.inl ⟨0, 2, lv0, rfl⟩)⟩
      show mAt g _ (.inr (2, [.int (va_up la.2.2 1 (la.2.2 1 + 1) 1), .ref ((adA la n 1 e v).1 1 1), .int (nI (va_up n 1 (n 1 + 1) 1))])) H1
      rw [va_up_self, va_up_self, a1]
      exact hl
    · rw [a1]
      refine ⟨?_, Or.inl ?_⟩
      · show mAt g _ (.inl (g.2.1 2, va_up la.2.1 1 (newCap (n 1) (la.2.1 1)) 1, rfs (elM g (adA la n 1 e v).1 yt (cnM (va_up n 1 (n 1 + 1)) yn) 1))) H1
        rw [va_up_self, show elM g (adA la n 1 e v).1 yt (cnM (va_up n 1 (n 1 + 1)) yn) 1 = va_up (elM g la.1 yt (cnM n yn) 1) (n 1) (some v) from by
          funext j
          show (if j < va_up n 1 (n 1 + 1) 1 then some ((adA la n 1 e v).1 3 j) else none) = va_up (elM g la.1 yt (cnM n yn) 1) (n 1) (some v) j
          rw [va_up_self]
          by_cases hj : j = n 1
          · subst hj
            rw [va_up_self, if_pos (Nat.lt_succ_self _), a2]
          · rw [va_up_ne _ _ hj, adA_o (by omega) (fun z => hj z.2)]
            show _ = if j < n 1 then some (la.1 3 j) else none
            by_cases hj2 : j < n 1
            · rw [if_pos hj2, if_pos (by omega)]
            · rw [if_neg hj2, if_neg (by omega)]]
        exact hea
      · rcases he2 with ⟨h0, h1⟩ | h1
        · exact Or.inl ⟨1, 1, ⟨by decide, h0⟩, h1⟩
        · exact Or.inr h1
    · rw [a2]
      refine ⟨?_, Or.inr rfl⟩
      show mAt g _ (.inr (8, eT (va_up tr (n 1) (ob4 c0 c1 c2 c3) (n 1)))) H1
      rw [va_up_self]
      exact hv1
  · intro j i j' i' hl9 hd hl9' ee
    by_cases hd' : j' = 0 ∧ i' = 2 ∨ j' = 1 ∧ i' = 1 ∨ j' = 3 ∧ i' = n 1
    · rcases hd with ⟨rfl, rfl⟩ | ⟨rfl, rfl⟩ | ⟨rfl, rfl⟩ <;> rcases hd' with ⟨rfl, rfl⟩ | ⟨rfl, rfl⟩ | ⟨rfl, rfl⟩
      · exact ⟨rfl, rfl⟩
      · rw [a0, a1] at ee; exact absurd ee.symm (hek _ _ lv0 (by omega))
      · rw [a0, a2] at ee; exact absurd ee (hva _ ⟨0, 2, lv0, rfl⟩)
      · rw [a0, a1] at ee; exact absurd ee (hek _ _ lv0 (by omega))
      · exact ⟨rfl, rfl⟩
      · rw [a1, a2] at ee; exact absurd ee hev
      · rw [a0, a2] at ee; exact absurd ee.symm (hva _ ⟨0, 2, lv0, rfl⟩)
      · rw [a1, a2] at ee; exact absurd ee.symm hev
      · exact ⟨rfl, rfl⟩
    · obtain ⟨b1, b2, -⟩ := hs j' i' hl9' hd'
      rw [b2] at ee
      rcases hd with ⟨rfl, rfl⟩ | ⟨rfl, rfl⟩ | ⟨rfl, rfl⟩
      · rw [a0] at ee; exact absurd ee.symm (hdd j' i' b1 hd').1
      · rw [a1] at ee; exact absurd ee (hek _ _ b1 (fun z => hd' (Or.inr (Or.inl z))))
      · rw [a2] at ee; exact absurd ee.symm (hva _ ⟨j', i', b1, rfl⟩)
  · refine ⟨fun j hj => ?_, h.2.2⟩
    by_cases hjk : j = 1
    · subst hjk
      show va_up n 1 (n 1 + 1) 1 ≤ va_up la.2.1 1 (newCap (n 1) (la.2.1 1)) 1 ∧ va_up la.2.1 1 (newCap (n 1) (la.2.1 1)) 1 < 2 ^ 24 ∧ (va_up la.2.1 1 (newCap (n 1) (la.2.1 1)) 1 = 0 → _) ∧ 2 * va_up la.2.1 1 (newCap (n 1) (la.2.1 1)) 1 ≤ 20 + 3 * va_up n 1 (n 1 + 1) 1
      rw [va_up_self, va_up_self]
      exact ⟨q1, by omega, fun z => absurd z q3, q2⟩
    · have h9 := h.2.1 j hj
      show va_up n 1 (n 1 + 1) j ≤ va_up la.2.1 1 (newCap (n 1) (la.2.1 1)) j ∧ va_up la.2.1 1 (newCap (n 1) (la.2.1 1)) j < 2 ^ 24 ∧ (va_up la.2.1 1 (newCap (n 1) (la.2.1 1)) j = 0 → (adA la n 1 e v).1 1 j = _) ∧ 2 * va_up la.2.1 1 (newCap (n 1) (la.2.1 1)) j ≤ 20 + 3 * va_up n 1 (n 1 + 1) j
      rw [va_up_ne n _ hjk, va_up_ne la.2.1 _ hjk, adA_o (by omega) (by omega)]
      exact h9
theorem mw.addL {e v : Nat} {c0 c1 c2 c3 c4 c5 c6 c7 : Int32} (h : mw g A la ⟨sc, sw, ar, fd, tr, ld, yt, yn⟩ n H) (hn : n 2 < 2 ^ 20) (hv : mAt g v (.inr (10, [.int c0, .int c1, .int c2, .int c3, .int c4, .int c5, .int c6, .int c7])) H) (hva : ∀ q, mF la n yn q → q ≠ v)
    (he : if n 2 < la.2.1 2 then e = la.1 1 2 else H.size ≤ e) (hl : mAt g (la.1 0 3) (.inr (2, [.int (la.2.2 2 + 1), .ref e, .int (nI (n 2 + 1))])) H1) (hea : mAt g e (.inl (g.2.1 2, newCap (n 2) (la.2.1 2), rfs (va_up (elM g la.1 yt (cnM n yn) 2) (n 2) (some v)))) H1)
    (hk : ∀ q, q < H.size → ¬ (fA (fun q => q = la.1 0 3 ∨ (la.2.1 2 ≠ 0 ∧ q = la.1 1 2)) H.size) q → H1[q]? = H[q]?) : mw g (fun q => fA (mF la n yn) H.size q ∨ q = v) (adA la n 2 e v) ⟨sc, sw, ar, fd, tr, va_up ld (n 2) (ob8 c0 c1 c2 c3 c4 c5 c6 c7), yt, yn⟩ (va_up n 2 (n 2 + 1)) H1 := by
  obtain ⟨hc1, hc2, hc3, hc4⟩ := h.2.1 2 (by decide)
  have hc1 : n 2 ≤ la.2.1 2 := hc1
  have hc4 : 2 * la.2.1 2 ≤ 20 + 3 * n 2 := hc4
  obtain ⟨q1, q2, -, -, q3⟩ := newCap_le _ _ hc1 hc4
  have hdd : ∀ j i, mLv la n yn j i → ¬ (j = 0 ∧ i = 3 ∨ j = 1 ∧ i = 2 ∨ j = 4 ∧ i = n 2) → la.1 j i ≠ la.1 0 3 ∧ (la.2.1 2 ≠ 0 → la.1 j i ≠ la.1 1 2) := fun j i hl9 hn9 => ⟨h.1.ne hl9 (j' := 0) (i' := 3) (by show 3 < 10; decide) (fun z => hn9 (Or.inl z)), fun h0 => h.1.ne hl9 (j' := 1) (i' := 2) ⟨by decide, h0⟩ (fun z => hn9 (Or.inr (Or.inl z)))⟩
  have hkA : ∀ q, q < H.size → q ≠ la.1 0 3 → (la.2.1 2 ≠ 0 → q ≠ la.1 1 2) → H1[q]? = H[q]? := fun q hq a b => hk q hq (fun z => z.elim (fun z => z.elim a (fun z => b z.1 z.2)) (Nat.not_le.mpr hq))
  have hv1 : mAt g v (.inr (10, [.int c0, .int c1, .int c2, .int c3, .int c4, .int c5, .int c6, .int c7])) H1 := hv.kept (hkA _ hv.lt (fun z => hva _ ⟨0, 3, (by show 3 < 10; decide), rfl⟩ z.symm) (fun h0 z => hva _ ⟨1, 2, ⟨by decide, h0⟩, rfl⟩ z.symm))
  have he2 : (la.2.1 2 ≠ 0 ∧ e = la.1 1 2) ∨ H.size ≤ e := by
    by_cases h1 : n 2 < la.2.1 2
    · rw [if_pos h1] at he
      exact Or.inl ⟨by omega, he⟩
    · rw [if_neg h1] at he
      exact Or.inr he
  have hev : e ≠ v := by
    rcases he2 with ⟨h0, h1⟩ | h1
    · rw [h1]
      exact hva _ ⟨1, 2, ⟨by decide, h0⟩, rfl⟩
    · exact fun z => Nat.not_le.mpr hv.lt (z ▸ h1)
  have hek : ∀ j i, mLv la n yn j i → ¬ (j = 1 ∧ i = 2) → e ≠ la.1 j i := by
    intro j i hl9 hn9 z
    rcases he2 with ⟨h0, h1⟩ | h1
    · exact hn9 (h.1.2 j i 1 2 hl9 ⟨by decide, h0⟩ (z ▸ h1))
    · exact Nat.not_le.mpr (h.1.at hl9).lt (z ▸ h1)
  have hs : ∀ j i, mLv (adA la n 2 e v) (va_up n 2 (n 2 + 1)) yn j i → ¬ (j = 0 ∧ i = 3 ∨ j = 1 ∧ i = 2 ∨ j = 4 ∧ i = n 2) → mLv la n yn j i ∧ (adA la n 2 e v).1 j i = la.1 j i ∧ mCt g (adA la n 2 e v) ⟨sc, sw, ar, fd, tr, va_up ld (n 2) (ob8 c0 c1 c2 c3 c4 c5 c6 c7), yt, yn⟩ (va_up n 2 (n 2 + 1)) j i = mCt g la ⟨sc, sw, ar, fd, tr, ld, yt, yn⟩ n j i := by
    intro j i hl9 hn9
    have hA1 : (adA la n 2 e v).1 j i = la.1 j i := adA_o (fun z => hn9 (Or.inr (Or.inl z))) (fun z => hn9 (Or.inr (Or.inr z)))
    refine ⟨?_, hA1, ?_⟩
    · match j, i, hl9, hn9 with
      | 0, i, hl9, hn9 => exact hl9
      | 1, 0, hl9, hn9 => exact hl9
      | 1, 1, hl9, hn9 => exact hl9
      | 1, 2, hl9, hn9 => exact absurd (Or.inr (Or.inl ⟨rfl, rfl⟩)) hn9
      | 1, 3, hl9, hn9 => exact hl9
      | 1, 4, hl9, hn9 => exact hl9
      | 1, i + 5, hl9, hn9 => exact absurd hl9.1 (by omega)
      | 2, i, hl9, hn9 => exact hl9
      | 3, i, hl9, hn9 => exact hl9
      | 4, i, hl9, hn9 =>
        have h3 : i < va_up n 2 (n 2 + 1) 2 := hl9
        rw [va_up_self] at h3
        have h4 : ¬ i = n 2 := fun z => hn9 (Or.inr (Or.inr ⟨rfl, z⟩))
        show i < n 2
        omega
      | j + 5, i, hl9, hn9 => exact absurd hl9 (fun z => z)
    · match j, i, hl9, hn9 with
      | 0, 0, hl9, hn9 => 
        show (.inr (4, eE (adA la n 2 e v).1 sc sw) : va_E) = .inr (4, eE la.1 sc sw)
        unfold eE
        rw [adA_0, adA_0, adA_0, adA_0, adA_0, adA_0, adA_0, adA_0, adA_0]
      | 0, 1, hl9, hn9 => 
        show (.inr (2, [.int (va_up la.2.2 2 (la.2.2 2 + 1) 0), .ref ((adA la n 2 e v).1 1 0), .int (nI (cnM (va_up n 2 (n 2 + 1)) yn 0))]) : va_E) = .inr (2, [.int (la.2.2 0), .ref (la.1 1 0), .int (nI (cnM n yn 0))])
        rw [va_up_ne la.2.2 _ (by decide), adA_o (by decide) (by omega)]
        rfl
      | 0, 2, hl9, hn9 => 
        show (.inr (2, [.int (va_up la.2.2 2 (la.2.2 2 + 1) 1), .ref ((adA la n 2 e v).1 1 1), .int (nI (cnM (va_up n 2 (n 2 + 1)) yn 1))]) : va_E) = .inr (2, [.int (la.2.2 1), .ref (la.1 1 1), .int (nI (cnM n yn 1))])
        rw [va_up_ne la.2.2 _ (by decide), adA_o (by decide) (by omega)]
        rfl
      | 0, 3, hl9, hn9 => exact absurd (Or.inl ⟨rfl, rfl⟩) hn9
      | 0, 4, hl9, hn9 => 
        show (.inr (2, [.int (va_up la.2.2 2 (la.2.2 2 + 1) 3), .ref ((adA la n 2 e v).1 1 3), .int (nI (cnM (va_up n 2 (n 2 + 1)) yn 3))]) : va_E) = .inr (2, [.int (la.2.2 3), .ref (la.1 1 3), .int (nI (cnM n yn 3))])
        rw [va_up_ne la.2.2 _ (by decide), adA_o (by decide) (by omega)]
        rfl
      | 0, 5, hl9, hn9 => 
        show (.inr (2, [.int (va_up la.2.2 2 (la.2.2 2 + 1) 4), .ref ((adA la n 2 e v).1 1 4), .int (nI (cnM (va_up n 2 (n 2 + 1)) yn 4))]) : va_E) = .inr (2, [.int (la.2.2 4), .ref (la.1 1 4), .int (nI (cnM n yn 4))])
        rw [va_up_ne la.2.2 _ (by decide), adA_o (by decide) (by omega)]
        rfl
      | 0, 6, hl9, hn9 => rfl
      | 0, 7, hl9, hn9 => rfl
      | 0, 8, hl9, hn9 => rfl
      | 0, 9, hl9, hn9 => rfl
      | 0, i + 10, hl9, hn9 => exact absurd hl9 (by show ¬ i + 10 < 10; omega)
      | 1, 0, hl9, hn9 =>
        show (.inl (g.2.1 2, va_up la.2.1 2 (newCap (n 2) (la.2.1 2)) 0, rfs (elM g (adA la n 2 e v).1 yt (cnM (va_up n 2 (n 2 + 1)) yn) 0)) : va_E) = .inl (g.2.1 2, la.2.1 0, rfs (elM g la.1 yt (cnM n yn) 0))
        rw [va_up_ne la.2.1 _ (by decide), show elM g (adA la n 2 e v).1 yt (cnM (va_up n 2 (n 2 + 1)) yn) 0 = elM g la.1 yt (cnM n yn) 0 from by
          funext j
          show (if j < va_up n 2 (n 2 + 1) 0 then some ((adA la n 2 e v).1 2 j) else none) = if j < n 0 then some (la.1 2 j) else none
          rw [va_up_ne n _ (by decide), adA_o (by omega) (by omega)]]
      | 1, 1, hl9, hn9 =>
        show (.inl (g.2.1 2, va_up la.2.1 2 (newCap (n 2) (la.2.1 2)) 1, rfs (elM g (adA la n 2 e v).1 yt (cnM (va_up n 2 (n 2 + 1)) yn) 1)) : va_E) = .inl (g.2.1 2, la.2.1 1, rfs (elM g la.1 yt (cnM n yn) 1))
        rw [va_up_ne la.2.1 _ (by decide), show elM g (adA la n 2 e v).1 yt (cnM (va_up n 2 (n 2 + 1)) yn) 1 = elM g la.1 yt (cnM n yn) 1 from by
          funext j
          show (if j < va_up n 2 (n 2 + 1) 1 then some ((adA la n 2 e v).1 3 j) else none) = if j < n 1 then some (la.1 3 j) else none
          rw [va_up_ne n _ (by decide), adA_o (by omega) (by omega)]]
      | 1, 2, hl9, hn9 => exact absurd (Or.inr (Or.inl ⟨rfl, rfl⟩)) hn9
      | 1, 3, hl9, hn9 => rfl
      | 1, 4, hl9, hn9 => rfl
      | 1, i + 5, hl9, hn9 => exact absurd hl9.1 (by omega)
      | 2, i, hl9, hn9 => rfl
      | 3, i, hl9, hn9 => rfl
      | 4, i, hl9, hn9 =>
        show (.inr (10, eM (va_up ld (n 2) (ob8 c0 c1 c2 c3 c4 c5 c6 c7) i)) : va_E) = .inr (10, eM (ld i))
        rw [va_up_ne ld _ (fun z => hn9 (Or.inr (Or.inr ⟨rfl, z⟩)))]
      | j + 5, i, hl9, hn9 => exact absurd hl9 (fun z => z)
  have a0 : (adA la n 2 e v).1 0 3 = la.1 0 3 := adA_0
  have a1 : (adA la n 2 e v).1 1 2 = e := adA_e
  have a2 : (adA la n 2 e v).1 4 (n 2) = v := adA_v
  have lv0 : mLv la n yn 0 3 := (by show 3 < 10; decide)
  refine ⟨h.1.chg (fun j i => j = 0 ∧ i = 3 ∨ j = 1 ∧ i = 2 ∨ j = 4 ∧ i = n 2) ?_ hs (fun j i hl9 hn9 => hkA _ (h.1.at hl9).lt (hdd j i hl9 hn9).1 (hdd j i hl9 hn9).2) (fun j i hl9 _ => Or.inl (Or.inl ⟨j, i, hl9, rfl⟩)) ?_, ?_⟩
  · rintro j i hl9 (⟨rfl, rfl⟩ | ⟨rfl, rfl⟩ | ⟨rfl, rfl⟩)
    · rw [a0]
      refine ⟨?_, Or.inl (Or.inl ⟨0, 3, lv0, rfl⟩)⟩
      show mAt g _ (.inr (2, [.int (va_up la.2.2 2 (la.2.2 2 + 1) 2), .ref ((adA la n 2 e v).1 1 2), .int (nI (va_up n 2 (n 2 + 1) 2))])) H1
      rw [va_up_self, va_up_self, a1]
      exact hl
    · rw [a1]
      refine ⟨?_, Or.inl ?_⟩
      · show mAt g _ (.inl (g.2.1 2, va_up la.2.1 2 (newCap (n 2) (la.2.1 2)) 2, rfs (elM g (adA la n 2 e v).1 yt (cnM (va_up n 2 (n 2 + 1)) yn) 2))) H1
        rw [va_up_self, show elM g (adA la n 2 e v).1 yt (cnM (va_up n 2 (n 2 + 1)) yn) 2 = va_up (elM g la.1 yt (cnM n yn) 2) (n 2) (some v) from by
          funext j
          show (if j < va_up n 2 (n 2 + 1) 2 then some ((adA la n 2 e v).1 4 j) else none) = va_up (elM g la.1 yt (cnM n yn) 2) (n 2) (some v) j
          rw [va_up_self]
          by_cases hj : j = n 2
          · subst hj
            rw [va_up_self, if_pos (Nat.lt_succ_self _), a2]
          · rw [va_up_ne _ _ hj, adA_o (by omega) (fun z => hj z.2)]
            show _ = if j < n 2 then some (la.1 4 j) else none
            by_cases hj2 : j < n 2
            · rw [if_pos hj2, if_pos (by omega)]
            · rw [if_neg hj2, if_neg (by omega)]]
        exact hea
      · rcases he2 with ⟨h0, h1⟩ | h1
        · exact Or.inl ⟨1, 2, ⟨by decide, h0⟩, h1⟩
        · exact Or.inr h1
    · rw [a2]
      refine ⟨?_, Or.inr rfl⟩
      show mAt g _ (.inr (10, eM (va_up ld (n 2) (ob8 c0 c1 c2 c3 c4 c5 c6 c7) (n 2)))) H1
      rw [va_up_self]
      exact hv1
  · intro j i j' i' hl9 hd hl9' ee
    by_cases hd' : j' = 0 ∧ i' = 3 ∨ j' = 1 ∧ i' = 2 ∨ j' = 4 ∧ i' = n 2
    · rcases hd with ⟨rfl, rfl⟩ | ⟨rfl, rfl⟩ | ⟨rfl, rfl⟩ <;> rcases hd' with ⟨rfl, rfl⟩ | ⟨rfl, rfl⟩ | ⟨rfl, rfl⟩
      · exact ⟨rfl, rfl⟩
      · rw [a0, a1] at ee; exact absurd ee.symm (hek _ _ lv0 (by omega))
      · rw [a0, a2] at ee; exact absurd ee (hva _ ⟨0, 3, lv0, rfl⟩)
      · rw [a0, a1] at ee; exact absurd ee (hek _ _ lv0 (by omega))
      · exact ⟨rfl, rfl⟩
      · rw [a1, a2] at ee; exact absurd ee hev
      · rw [a0, a2] at ee; exact absurd ee.symm (hva _ ⟨0, 3, lv0, rfl⟩)
      · rw [a1, a2] at ee; exact absurd ee.symm hev
      · exact ⟨rfl, rfl⟩
    · obtain ⟨b1, b2, -⟩ := hs j' i' hl9' hd'
      rw [b2] at ee
      rcases hd with ⟨rfl, rfl⟩ | ⟨rfl, rfl⟩ | ⟨rfl, rfl⟩
      · rw [a0] at ee; exact absurd ee.symm (hdd j' i' b1 hd').1
      · rw [a1] at ee; exact absurd ee (hek _ _ b1 (fun z => hd' (Or.inr (Or.inl z))))
      · rw [a2] at ee; exact absurd ee.symm (hva _ ⟨j', i', b1, rfl⟩)
  · refine ⟨fun j hj => ?_, h.2.2⟩
    by_cases hjk : j = 2
    · subst hjk
      show va_up n 2 (n 2 + 1) 2 ≤ va_up la.2.1 2 (newCap (n 2) (la.2.1 2)) 2 ∧ va_up la.2.1 2 (newCap (n 2) (la.2.1 2)) 2 < 2 ^ 24 ∧ (va_up la.2.1 2 (newCap (n 2) (la.2.1 2)) 2 = 0 → _) ∧ 2 * va_up la.2.1 2 (newCap (n 2) (la.2.1 2)) 2 ≤ 20 + 3 * va_up n 2 (n 2 + 1) 2
      rw [va_up_self, va_up_self]
      exact ⟨q1, by omega, fun z => absurd z q3, q2⟩
    · have h9 := h.2.1 j hj
      show va_up n 2 (n 2 + 1) j ≤ va_up la.2.1 2 (newCap (n 2) (la.2.1 2)) j ∧ va_up la.2.1 2 (newCap (n 2) (la.2.1 2)) j < 2 ^ 24 ∧ (va_up la.2.1 2 (newCap (n 2) (la.2.1 2)) j = 0 → (adA la n 2 e v).1 1 j = _) ∧ 2 * va_up la.2.1 2 (newCap (n 2) (la.2.1 2)) j ≤ 20 + 3 * va_up n 2 (n 2 + 1) j
      rw [va_up_ne n _ hjk, va_up_ne la.2.1 _ hjk, adA_o (by omega) (by omega)]
      exact h9
end MW
theorem mEl_MF {g : GT} {v : Nat} {vs : List Value} {H : Heap} (h : mAt g v (.inr (6, vs)) H) : mEl g v H := Or.inl ⟨6, vs, _, h, tfX6.2.1, q1527⟩
theorem mEl_MT {g : GT} {v : Nat} {vs : List Value} {H : Heap} (h : mAt g v (.inr (8, vs)) H) : mEl g v H := Or.inl ⟨8, vs, _, h, tfX8.2.1, q1529⟩
theorem mEl_ML {g : GT} {v : Nat} {vs : List Value} {H : Heap} (h : mAt g v (.inr (10, vs)) H) : mEl g v H := Or.inl ⟨10, vs, _, h, tfX10.2.1, q1531⟩
theorem mw.addP0 {g : GT} {A : Nat → Prop} {la : LT} {H : Heap} {sc : Nat → Int32} {sw : Int64} {ar fd tr ld : Nat → Nat → Int32} {yt : Nat → Nat → Nat} {yn n : Nat → Nat} (h : mw g A la ⟨sc, sw, ar, fd, tr, ld, yt, yn⟩ n H) (hb : ∀ q, A q → bA g q) :
    bA g (la.1 0 1) ∧ (la.2.1 0 ≠ 0 → bA g (la.1 1 0) ∧ la.1 0 1 ≠ la.1 1 0) ∧ (la.2.1 0 = 0 → la.1 1 0 = g.2.2 1) ∧ n 0 ≤ la.2.1 0 ∧ la.2.1 0 < 2 ^ 24 ∧ (∀ i, n 0 ≤ i → elM g la.1 yt (cnM n yn) 0 i = none) ∧ (la.2.1 0 ≠ 0 → mAt g (la.1 1 0) (.inl (g.2.1 2, la.2.1 0, rfs (elM g la.1 yt (cnM n yn) 0))) H) ∧ mEls g (la.1 0 1) (elM g la.1 yt (cnM n yn) 0) H ∧ (∀ q, (fA (fun q => q = la.1 0 1 ∨ (la.2.1 0 ≠ 0 ∧ q = la.1 1 0)) H.size) q → mF la n yn q ∨ H.size ≤ q) ∧ 2 * la.2.1 0 ≤ 20 + 3 * n 0 := by
  have lv0 : mLv la n yn 0 1 := (by show 1 < 10; decide)
  obtain ⟨hc1, hc2, hc3, hc4⟩ := h.2.1 0 (by decide)
  refine ⟨hb _ (h.1.inA lv0), fun h0 => ⟨hb _ (h.1.inA (j := 1) (i := 0) ⟨by decide, h0⟩), h.1.ne (j := 0) (i := 1) (j' := 1) (i' := 0) lv0 ⟨by decide, h0⟩ (by decide)⟩, hc3, hc1, hc2, fun i hi => if_neg (Nat.not_lt.mpr hi), fun h0 => h.ed0 h0, fun i y hy9 => ?_, fun q hq => ?_, hc4⟩
  · by_cases hi : i < n 0
    · rw [show elM g la.1 yt (cnM n yn) 0 i = some (la.1 2 i) from if_pos hi] at hy9
      cases hy9
      exact ⟨mEl_MF (h.f hi), h.1.ne (j := 2) (i := i) (j' := 0) (i' := 1) hi lv0 (by omega)⟩
    · rw [show elM g la.1 yt (cnM n yn) 0 i = none from if_neg hi] at hy9
      cases hy9
  · rcases hq with hq | hq
    · rcases hq with hq | ⟨h0, hq⟩
      · exact Or.inl ⟨0, 1, lv0, hq⟩
      · exact Or.inl ⟨1, 0, ⟨by decide, h0⟩, hq⟩
    · exact Or.inr hq
theorem mw.addP1 {g : GT} {A : Nat → Prop} {la : LT} {H : Heap} {sc : Nat → Int32} {sw : Int64} {ar fd tr ld : Nat → Nat → Int32} {yt : Nat → Nat → Nat} {yn n : Nat → Nat} (h : mw g A la ⟨sc, sw, ar, fd, tr, ld, yt, yn⟩ n H) (hb : ∀ q, A q → bA g q) :
    bA g (la.1 0 2) ∧ (la.2.1 1 ≠ 0 → bA g (la.1 1 1) ∧ la.1 0 2 ≠ la.1 1 1) ∧ (la.2.1 1 = 0 → la.1 1 1 = g.2.2 1) ∧ n 1 ≤ la.2.1 1 ∧ la.2.1 1 < 2 ^ 24 ∧ (∀ i, n 1 ≤ i → elM g la.1 yt (cnM n yn) 1 i = none) ∧ (la.2.1 1 ≠ 0 → mAt g (la.1 1 1) (.inl (g.2.1 2, la.2.1 1, rfs (elM g la.1 yt (cnM n yn) 1))) H) ∧ mEls g (la.1 0 2) (elM g la.1 yt (cnM n yn) 1) H ∧ (∀ q, (fA (fun q => q = la.1 0 2 ∨ (la.2.1 1 ≠ 0 ∧ q = la.1 1 1)) H.size) q → mF la n yn q ∨ H.size ≤ q) ∧ 2 * la.2.1 1 ≤ 20 + 3 * n 1 := by
  have lv0 : mLv la n yn 0 2 := (by show 2 < 10; decide)
  obtain ⟨hc1, hc2, hc3, hc4⟩ := h.2.1 1 (by decide)
  refine ⟨hb _ (h.1.inA lv0), fun h0 => ⟨hb _ (h.1.inA (j := 1) (i := 1) ⟨by decide, h0⟩), h.1.ne (j := 0) (i := 2) (j' := 1) (i' := 1) lv0 ⟨by decide, h0⟩ (by decide)⟩, hc3, hc1, hc2, fun i hi => if_neg (Nat.not_lt.mpr hi), fun h0 => h.ed1 h0, fun i y hy9 => ?_, fun q hq => ?_, hc4⟩
  · by_cases hi : i < n 1
    · rw [show elM g la.1 yt (cnM n yn) 1 i = some (la.1 3 i) from if_pos hi] at hy9
      cases hy9
      exact ⟨mEl_MT (h.t hi), h.1.ne (j := 3) (i := i) (j' := 0) (i' := 2) hi lv0 (by omega)⟩
    · rw [show elM g la.1 yt (cnM n yn) 1 i = none from if_neg hi] at hy9
      cases hy9
  · rcases hq with hq | hq
    · rcases hq with hq | ⟨h0, hq⟩
      · exact Or.inl ⟨0, 2, lv0, hq⟩
      · exact Or.inl ⟨1, 1, ⟨by decide, h0⟩, hq⟩
    · exact Or.inr hq
theorem mw.addP2 {g : GT} {A : Nat → Prop} {la : LT} {H : Heap} {sc : Nat → Int32} {sw : Int64} {ar fd tr ld : Nat → Nat → Int32} {yt : Nat → Nat → Nat} {yn n : Nat → Nat} (h : mw g A la ⟨sc, sw, ar, fd, tr, ld, yt, yn⟩ n H) (hb : ∀ q, A q → bA g q) :
    bA g (la.1 0 3) ∧ (la.2.1 2 ≠ 0 → bA g (la.1 1 2) ∧ la.1 0 3 ≠ la.1 1 2) ∧ (la.2.1 2 = 0 → la.1 1 2 = g.2.2 1) ∧ n 2 ≤ la.2.1 2 ∧ la.2.1 2 < 2 ^ 24 ∧ (∀ i, n 2 ≤ i → elM g la.1 yt (cnM n yn) 2 i = none) ∧ (la.2.1 2 ≠ 0 → mAt g (la.1 1 2) (.inl (g.2.1 2, la.2.1 2, rfs (elM g la.1 yt (cnM n yn) 2))) H) ∧ mEls g (la.1 0 3) (elM g la.1 yt (cnM n yn) 2) H ∧ (∀ q, (fA (fun q => q = la.1 0 3 ∨ (la.2.1 2 ≠ 0 ∧ q = la.1 1 2)) H.size) q → mF la n yn q ∨ H.size ≤ q) ∧ 2 * la.2.1 2 ≤ 20 + 3 * n 2 := by
  have lv0 : mLv la n yn 0 3 := (by show 3 < 10; decide)
  obtain ⟨hc1, hc2, hc3, hc4⟩ := h.2.1 2 (by decide)
  refine ⟨hb _ (h.1.inA lv0), fun h0 => ⟨hb _ (h.1.inA (j := 1) (i := 2) ⟨by decide, h0⟩), h.1.ne (j := 0) (i := 3) (j' := 1) (i' := 2) lv0 ⟨by decide, h0⟩ (by decide)⟩, hc3, hc1, hc2, fun i hi => if_neg (Nat.not_lt.mpr hi), fun h0 => h.ed2 h0, fun i y hy9 => ?_, fun q hq => ?_, hc4⟩
  · by_cases hi : i < n 2
    · rw [show elM g la.1 yt (cnM n yn) 2 i = some (la.1 4 i) from if_pos hi] at hy9
      cases hy9
      exact ⟨mEl_ML (h.l hi), h.1.ne (j := 4) (i := i) (j' := 0) (i' := 3) hi lv0 (by omega)⟩
    · rw [show elM g la.1 yt (cnM n yn) 2 i = none from if_neg hi] at hy9
      cases hy9
  · rcases hq with hq | hq
    · rcases hq with hq | ⟨h0, hq⟩
      · exact Or.inl ⟨0, 3, lv0, hq⟩
      · exact Or.inl ⟨1, 2, ⟨by decide, h0⟩, hq⟩
    · exact Or.inr hq
theorem mw.addP3 {g : GT} {A : Nat → Prop} {la : LT} {H : Heap} {sc : Nat → Int32} {sw : Int64} {ar fd tr ld : Nat → Nat → Int32} {yt : Nat → Nat → Nat} {yn n : Nat → Nat} (h : mw g A la ⟨sc, sw, ar, fd, tr, ld, yt, yn⟩ n H) (hb : ∀ q, A q → bA g q) (hy : ∀ j, j < yn 0 → yt 0 j < 128) :
    bA g (la.1 0 4) ∧ (yn 2 ≠ 0 → bA g (la.1 1 3) ∧ la.1 0 4 ≠ la.1 1 3) ∧ (yn 2 = 0 → la.1 1 3 = g.2.2 1) ∧ yn 0 ≤ yn 2 ∧ yn 2 < 2 ^ 24 ∧ (∀ i, yn 0 ≤ i → elM g la.1 yt (cnM n yn) 3 i = none) ∧ (yn 2 ≠ 0 → mAt g (la.1 1 3) (.inl (g.2.1 2, yn 2, rfs (elM g la.1 yt (cnM n yn) 3))) H) ∧ mEls g (la.1 0 4) (elM g la.1 yt (cnM n yn) 3) H ∧ (∀ q, (fA (fun q => q = la.1 0 4 ∨ (yn 2 ≠ 0 ∧ q = la.1 1 3)) H.size) q → mF la n yn q ∨ H.size ≤ q) ∧ yn 2 ≤ 145 := by
  have lv0 : mLv la n yn 0 4 := (by show 4 < 10; decide)
  obtain ⟨hc1, hc4, hc3⟩ := h.2.2.1
  refine ⟨hb _ (h.1.inA lv0), fun h0 => ⟨hb _ (h.1.inA (j := 1) (i := 3) ⟨by decide, h0⟩), h.1.ne (j := 0) (i := 4) (j' := 1) (i' := 3) lv0 ⟨by decide, h0⟩ (by decide)⟩, hc3, hc1, (by omega), fun i hi => if_neg (Nat.not_lt.mpr hi), fun h0 => h.ed3 h0, fun i y hy9 => ?_, fun q hq => ?_, hc4⟩
  · by_cases hi : i < yn 0
    · rw [show elM g la.1 yt (cnM n yn) 3 i = some (icA g (yt 0 i)) from if_pos hi] at hy9
      cases hy9
      exact ⟨mIel (hy i hi), NEQ⟩
    · rw [show elM g la.1 yt (cnM n yn) 3 i = none from if_neg hi] at hy9
      cases hy9
  · rcases hq with hq | hq
    · rcases hq with hq | ⟨h0, hq⟩
      · exact Or.inl ⟨0, 4, lv0, hq⟩
      · exact Or.inl ⟨1, 3, ⟨by decide, h0⟩, hq⟩
    · exact Or.inr hq
theorem mw.addP4 {g : GT} {A : Nat → Prop} {la : LT} {H : Heap} {sc : Nat → Int32} {sw : Int64} {ar fd tr ld : Nat → Nat → Int32} {yt : Nat → Nat → Nat} {yn n : Nat → Nat} (h : mw g A la ⟨sc, sw, ar, fd, tr, ld, yt, yn⟩ n H) (hb : ∀ q, A q → bA g q) (hy : ∀ j, j < yn 1 → yt 1 j < 128) :
    bA g (la.1 0 5) ∧ (yn 3 ≠ 0 → bA g (la.1 1 4) ∧ la.1 0 5 ≠ la.1 1 4) ∧ (yn 3 = 0 → la.1 1 4 = g.2.2 1) ∧ yn 1 ≤ yn 3 ∧ yn 3 < 2 ^ 24 ∧ (∀ i, yn 1 ≤ i → elM g la.1 yt (cnM n yn) 4 i = none) ∧ (yn 3 ≠ 0 → mAt g (la.1 1 4) (.inl (g.2.1 2, yn 3, rfs (elM g la.1 yt (cnM n yn) 4))) H) ∧ mEls g (la.1 0 5) (elM g la.1 yt (cnM n yn) 4) H ∧ (∀ q, (fA (fun q => q = la.1 0 5 ∨ (yn 3 ≠ 0 ∧ q = la.1 1 4)) H.size) q → mF la n yn q ∨ H.size ≤ q) ∧ yn 3 ≤ 145 := by
  have lv0 : mLv la n yn 0 5 := (by show 5 < 10; decide)
  obtain ⟨hc1, hc4, hc3⟩ := h.2.2.2
  refine ⟨hb _ (h.1.inA lv0), fun h0 => ⟨hb _ (h.1.inA (j := 1) (i := 4) ⟨by decide, h0⟩), h.1.ne (j := 0) (i := 5) (j' := 1) (i' := 4) lv0 ⟨by decide, h0⟩ (by decide)⟩, hc3, hc1, (by omega), fun i hi => if_neg (Nat.not_lt.mpr hi), fun h0 => h.ed4 h0, fun i y hy9 => ?_, fun q hq => ?_, hc4⟩
  · by_cases hi : i < yn 1
    · rw [show elM g la.1 yt (cnM n yn) 4 i = some (icA g (yt 1 i)) from if_pos hi] at hy9
      cases hy9
      exact ⟨mIel (hy i hi), NEQ⟩
    · rw [show elM g la.1 yt (cnM n yn) 4 i = none from if_neg hi] at hy9
      cases hy9
  · rcases hq with hq | hq
    · rcases hq with hq | ⟨h0, hq⟩
      · exact Or.inl ⟨0, 5, lv0, hq⟩
      · exact Or.inl ⟨1, 4, ⟨by decide, h0⟩, hq⟩
    · exact Or.inr hq
